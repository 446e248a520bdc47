/-! PURE: blocks and statements name one another *-/
/-- which kind of block a statement of a sort may own -/
def rsO (r x : Int) : Prop := (r = 1 ∧ x = 1) ∨ ((r = 2 ∨ r = 3) ∧ x = 4) ∨ (r = 4 ∧ (x = 5 ∨ x = 6)) ∨ ((r = 5 ∨ r = 6 ∨ r = 7) ∧ x = 9) ∨ (r = 8 ∧ x = 10) ∨ (r = 9 ∧ x = 11)
/-- the block that the owner of b names in the place of b -/
def nmB (U : tSt) (b : Int) : Int := if U 41 b = 3 then U 28 (U 42 b) else if U 41 b = 7 then U 29 (U 42 b) else if U 41 b = 6 then U 34 (4 * U 42 b + U 43 b) else U 27 (U 42 b)
def ZA (w : Int) (U : tSt) : Prop := ∀ b, Ab w U b → (U 41 b = 0 → 0 ≤ U 43 b ∧ U 43 b < U 9 w ∧ U 18 (w * 12 + U 43 b) = b) ∧ (U 41 b ≠ 0 → nmB U b = b ∧ rsO (U 41 b) (U 20 (U 42 b)))
/-- block b of statement s, in one of the places of its own -/
def bo (w : Int) (U : tSt) (s b : Int) : Prop := Ab w U b ∧ U 42 b = s ∧ U 41 b ≠ 0
def ZB (w : Int) (U : tSt) : Prop := ∀ s, As w U s → (U 27 s ≠ -1 → bo w U s (U 27 s) ∧ U 41 (U 27 s) ≠ 3 ∧ U 41 (U 27 s) ≠ 6 ∧ U 41 (U 27 s) ≠ 7) ∧ (U 28 s ≠ -1 → bo w U s (U 28 s) ∧ U 41 (U 28 s) = 3) ∧ (U 29 s ≠ -1 → bo w U s (U 29 s) ∧ U 41 (U 29 s) = 7) ∧ ∀ k, 0 ≤ k → k < U 33 s → bo w U s (U 34 (4 * s + k)) ∧ U 41 (U 34 (4 * s + k)) = 6 ∧ U 43 (U 34 (4 * s + k)) = k
def ZC (w : Int) (U : tSt) : Prop := ∀ m, 0 ≤ m → m < U 9 w → U 18 (w * 12 + m) ≠ -1 → Ab w U (U 18 (w * 12 + m)) ∧ U 41 (U 18 (w * 12 + m)) = 0 ∧ U 43 (U 18 (w * 12 + m)) = m
/-- the chain of statements from s on -/
def isCh (U : tSt) : Int → List Int → Prop
  | s, [] => s = -1
  | s, t :: L => s = t ∧ isCh U (U 24 t) L
def stB (U : tSt) (w b : Int) : List Int := stL U w (fun s => decide (U 22 s = b))
def ZD (w : Int) (U : tSt) : Prop := ∀ b, Ab w U b → isCh U (U 45 b) (stB U w b) ∧ U 46 b = (stB U w b).getLastD (-1)
/-- how deep blocks lie, and the open ones -/
def ZE (w : Int) (g : Int → Int) (S U : tSt) : Prop := (∀ b, Ab w U b → 1 ≤ g b ∧ g b ≤ 8 ∧ (U 41 b ≠ 0 → g b = g (U 22 (U 42 b)) + 1)) ∧
  ∀ i, 0 ≤ i → i < S 55 0 → g (S 56 i) = i + 1 ∧ (1 ≤ i → U 41 (S 56 i) ≠ 0 ∧ U 22 (U 42 (S 56 i)) = S 56 (i - 1)) ∧ (U 41 (S 56 i) = 2 → U 28 (U 42 (S 56 i)) = -1) ∧ (U 41 (S 56 i) = 5 ∨ U 41 (S 56 i) = 6 → U 29 (U 42 (S 56 i)) = -1)
def PZ (w : Int) (S U : tSt) : Prop := ZA w U ∧ ZB w U ∧ ZC w U ∧ ZD w U ∧ ∃ g, ZE w g S U
section PZS
variable {w b s x : Int} {S S' U U' : tSt} {g : Int → Int}
/-- the fields that the structure looks at -/
def pzF (f : Nat) : Bool := f == 9 || f == 18 || f == 19 || f == 20 || f == 22 || f == 24 || f == 27 || f == 28 || f == 29 || f == 33 || f == 34 || f == 40 || f == 41 || f == 42 || f == 43 || f == 44 || f == 45 || f == 46
/-- what PZ_opn asks of the rows -/
def PW (w : Int) (U : tSt) : Prop := (∀ s, As w U s → Ab w U (U 22 s)) ∧ ∀ b, Ab w U b → ((U 41 b = 0 ∧ U 42 b = -1) ∨ ((1 ≤ U 41 b ∧ U 41 b ≤ 9) ∧ As w U (U 42 b) ∧ U 22 (U 42 b) < b)) ∧ (U 41 b = 6 → 0 ≤ U 43 b ∧ U 43 b < U 33 (U 42 b))
theorem PQ.pw (pq : PQ w U) : PW w U := ⟨fun s hs => (pq.1 s hs).1, fun b hb => ⟨(pq.2.1 b hb).1, (pq.2.1 b hb).2.2.2⟩⟩
theorem isCh_cg : ∀ (L : List Int) (a : Int), (∀ t, t ∈ L → U' 24 t = U 24 t) → isCh U a L → isCh U' a L := by
  intro L
  induction L with
  | nil => intro a _ h; exact h
  | cons t L ih =>
    intro a e h
    refine ⟨h.1, ?_⟩
    rw [e t List.mem_cons_self]
    exact ih _ (fun q hq => e q (List.mem_cons_of_mem _ hq)) h.2
theorem PZ_E (p : PZ w S U) (e : ∀ f, pzF f = true → U' f = U f) (h5 : S' 55 0 ≤ S 55 0) (h6 : S' 56 = S 56) : PZ w S' U' := by
  obtain ⟨a, b, c, d, g, e1, e2⟩ := p
  have ch : ∀ (L : List Int) (x : Int), isCh U x L → isCh U' x L := fun L x h => isCh_cg L x (fun t _ => by rw [e 24 rfl]) h
  refine ⟨?_, ?_, ?_, ?_, g, ?_, ?_⟩
  · unfold ZA nmB Ab
    rw [e 9 rfl, e 18 rfl, e 20 rfl, e 27 rfl, e 28 rfl, e 29 rfl, e 34 rfl, e 40 rfl, e 41 rfl, e 42 rfl, e 43 rfl]
    exact a
  · unfold ZB bo As Ab
    rw [e 19 rfl, e 27 rfl, e 28 rfl, e 29 rfl, e 33 rfl, e 34 rfl, e 40 rfl, e 41 rfl, e 42 rfl, e 43 rfl]
    exact b
  · unfold ZC Ab
    rw [e 9 rfl, e 18 rfl, e 40 rfl, e 41 rfl, e 43 rfl]
    exact c
  · intro b hb
    unfold Ab at hb
    rw [e 40 rfl] at hb
    obtain ⟨d1, d2⟩ := d b hb
    unfold stB stL at d1 d2 ⊢
    rw [e 45 rfl, e 46 rfl, e 19 rfl, e 22 rfl]
    exact ⟨ch _ _ d1, d2⟩
  · unfold Ab
    rw [e 40 rfl, e 41 rfl, e 42 rfl, e 22 rfl]
    exact e1
  · rw [h6, e 41 rfl, e 42 rfl, e 22 rfl, e 28 rfl, e 29 rfl]
    intro i i0 i1
    exact e2 i i0 (by omega)
/-- a statement is entered in block b, of sort x -/
def ENT (w s b x : Int) (U U' : tSt) : Prop := s = w * 120 + U 19 w ∧ U' 19 w = U 19 w + 1 ∧ (U' 22 s = b ∧ U' 24 s = -1 ∧ U' 27 s = -1 ∧ U' 28 s = -1 ∧ U' 29 s = -1 ∧ U' 33 s = 0 ∧ U' 20 s = x) ∧
  (∀ f, f = 9 ∨ f = 18 ∨ f = 34 ∨ f = 40 ∨ f = 41 ∨ f = 42 ∨ f = 43 ∨ f = 44 → U' f = U f) ∧ (∀ f j, f = 20 ∨ f = 22 ∨ f = 27 ∨ f = 28 ∨ f = 29 ∨ f = 33 → j ≠ s → U' f j = U f j) ∧
  (∀ j, j ≠ b → U' 45 j = U 45 j ∧ U' 46 j = U 46 j) ∧ U' 46 b = s ∧ U' 45 b = (if U 46 b = -1 then s else U 45 b) ∧ ∀ j, j ≠ s → U' 24 j = if U 46 b ≠ -1 ∧ j = U 46 b then s else U 24 j
theorem ENT_mk : ENT w (w * 120 + U 19 w) b x U (up (tEnter w (w * 120 + U 19 w) b S U) 20 (w * 120 + U 19 w) x) ∨ U 46 b = w * 120 + U 19 w := by
  by_cases z : U 46 b = w * 120 + U 19 w
  · exact Or.inr z
  · left
    unfold tEnter tLink
    simp only [up_eq, true_and, false_and, and_true, and_false, and_self, if_true, if_false, eq_self, Nat.reduceEqDiff, reduceIte]
    by_cases q : U 46 b = -1
    · rw [if_pos q]
      refine ⟨rfl, ?_, ⟨?_, ?_, ?_, ?_, ?_, ?_, ?_⟩, fun f hf => ?_, fun f j hf hj => ?_, fun j hj => ⟨?_, ?_⟩, ?_, ?_, fun j hj => ?_⟩
      · simp only [up_eq, true_and, false_and, and_true, and_false, and_self, if_true, if_false, eq_self, Nat.reduceEqDiff, reduceIte]
      · simp only [up_eq, true_and, false_and, and_true, and_false, and_self, if_true, if_false, eq_self, Nat.reduceEqDiff, reduceIte]
      · simp only [up_eq, true_and, false_and, and_true, and_false, and_self, if_true, if_false, eq_self, Nat.reduceEqDiff, reduceIte]
      · simp only [up_eq, true_and, false_and, and_true, and_false, and_self, if_true, if_false, eq_self, Nat.reduceEqDiff, reduceIte]
      · simp only [up_eq, true_and, false_and, and_true, and_false, and_self, if_true, if_false, eq_self, Nat.reduceEqDiff, reduceIte]
      · simp only [up_eq, true_and, false_and, and_true, and_false, and_self, if_true, if_false, eq_self, Nat.reduceEqDiff, reduceIte]
      · simp only [up_eq, true_and, false_and, and_true, and_false, and_self, if_true, if_false, eq_self, Nat.reduceEqDiff, reduceIte]
      · simp only [up_eq, true_and, false_and, and_true, and_false, and_self, if_true, if_false, eq_self, Nat.reduceEqDiff, reduceIte]
      · rcases hf with rfl | rfl | rfl | rfl | rfl | rfl | rfl | rfl <;> simp (disch := decide) only [up_n]
      · rcases hf with rfl | rfl | rfl | rfl | rfl | rfl <;> simp only [up_eq, true_and, false_and, and_true, and_false, and_self, if_true, if_false, eq_self, Nat.reduceEqDiff, reduceIte, if_neg hj]
      · simp only [up_eq, true_and, false_and, and_true, and_false, and_self, if_true, if_false, eq_self, Nat.reduceEqDiff, reduceIte, if_neg hj]
      · simp only [up_eq, true_and, false_and, and_true, and_false, and_self, if_true, if_false, eq_self, Nat.reduceEqDiff, reduceIte, if_neg hj]
      · simp only [up_eq, true_and, false_and, and_true, and_false, and_self, if_true, if_false, eq_self, Nat.reduceEqDiff, reduceIte]
      · rw [if_pos q]
        simp only [up_eq, true_and, false_and, and_true, and_false, and_self, if_true, if_false, eq_self, Nat.reduceEqDiff, reduceIte]
      · rw [if_neg (fun y => y.1 q)]
        simp only [up_eq, true_and, false_and, and_true, and_false, and_self, if_true, if_false, eq_self, Nat.reduceEqDiff, reduceIte, if_neg hj]
    · rw [if_neg q]
      refine ⟨rfl, ?_, ⟨?_, ?_, ?_, ?_, ?_, ?_, ?_⟩, fun f hf => ?_, fun f j hf hj => ?_, fun j hj => ⟨?_, ?_⟩, ?_, ?_, fun j hj => ?_⟩
      · simp only [up_eq, true_and, false_and, and_true, and_false, and_self, if_true, if_false, eq_self, Nat.reduceEqDiff, reduceIte]
      · simp only [up_eq, true_and, false_and, and_true, and_false, and_self, if_true, if_false, eq_self, Nat.reduceEqDiff, reduceIte]
      · simp only [up_eq, true_and, false_and, and_true, and_false, and_self, if_true, if_false, eq_self, Nat.reduceEqDiff, reduceIte]
        rw [if_neg (fun y => z y.symm)]
      · simp only [up_eq, true_and, false_and, and_true, and_false, and_self, if_true, if_false, eq_self, Nat.reduceEqDiff, reduceIte]
      · simp only [up_eq, true_and, false_and, and_true, and_false, and_self, if_true, if_false, eq_self, Nat.reduceEqDiff, reduceIte]
      · simp only [up_eq, true_and, false_and, and_true, and_false, and_self, if_true, if_false, eq_self, Nat.reduceEqDiff, reduceIte]
      · simp only [up_eq, true_and, false_and, and_true, and_false, and_self, if_true, if_false, eq_self, Nat.reduceEqDiff, reduceIte]
      · simp only [up_eq, true_and, false_and, and_true, and_false, and_self, if_true, if_false, eq_self, Nat.reduceEqDiff, reduceIte]
      · rcases hf with rfl | rfl | rfl | rfl | rfl | rfl | rfl | rfl <;> simp (disch := decide) only [up_n]
      · rcases hf with rfl | rfl | rfl | rfl | rfl | rfl <;> simp only [up_eq, true_and, false_and, and_true, and_false, and_self, if_true, if_false, eq_self, Nat.reduceEqDiff, reduceIte, if_neg hj]
      · simp only [up_eq, true_and, false_and, and_true, and_false, and_self, if_true, if_false, eq_self, Nat.reduceEqDiff, reduceIte]
      · simp only [up_eq, true_and, false_and, and_true, and_false, and_self, if_true, if_false, eq_self, Nat.reduceEqDiff, reduceIte, if_neg hj]
      · simp only [up_eq, true_and, false_and, and_true, and_false, and_self, if_true, if_false, eq_self, Nat.reduceEqDiff, reduceIte]
      · rw [if_neg q]
        simp only [up_eq, true_and, false_and, and_true, and_false, and_self, if_true, if_false, eq_self, Nat.reduceEqDiff, reduceIte]
      · simp only [up_eq, true_and, false_and, and_true, and_false, and_self, if_true, if_false, eq_self, Nat.reduceEqDiff, reduceIte, if_neg hj]
        by_cases y : j = U 46 b
        · rw [if_pos y, if_pos ⟨q, y⟩]
        · rw [if_neg y, if_neg (fun t => y t.2)]
end PZS
