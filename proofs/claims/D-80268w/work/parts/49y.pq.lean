/-! PURE: the rows of statements and blocks hang together *-/
def Ps (w : Int) (U : tSt) (s : Int) : Prop := Ab w U (U 22 s) ∧ (U 24 s = -1 ∨ (s < U 24 s ∧ U 24 s < 120 * w + U 19 w)) ∧ (0 ≤ U 20 s ∧ U 20 s ≤ 11) ∧ (0 ≤ U 23 s ∧ U 23 s < U 9 w) ∧ (U 27 s = -1 ∨ Ab w U (U 27 s)) ∧ (U 28 s = -1 ∨ Ab w U (U 28 s)) ∧ (U 29 s = -1 ∨ Ab w U (U 29 s)) ∧ ∀ k, 0 ≤ k → k < U 33 s → U 34 (4 * s + k) = -1 ∨ Ab w U (U 34 (4 * s + k))
def Pb (w : Int) (U : tSt) (b : Int) : Prop := ((U 41 b = 0 ∧ U 42 b = -1) ∨ ((1 ≤ U 41 b ∧ U 41 b ≤ 9) ∧ As w U (U 42 b) ∧ U 22 (U 42 b) < b)) ∧ (U 45 b = -1 ∨ As w U (U 45 b)) ∧ (U 46 b = -1 ∨ As w U (U 46 b)) ∧ (U 41 b = 6 → 0 ≤ U 43 b ∧ U 43 b < U 33 (U 42 b))
def PQ (w : Int) (U : tSt) : Prop := (∀ s, As w U s → Ps w U s) ∧ (∀ b, Ab w U b → Pb w U b) ∧ ∀ k, 0 ≤ k → k < U 9 w → U 18 (w * 12 + k) = -1 ∨ Ab w U (U 18 (w * 12 + k))
section PQS
variable {w : Int} {S U : tSt}
theorem PQ_QW (p : PQ w U) (q : QV U) (k : PK w S U) (hb : 0 ≤ U 40 w ∧ U 40 w ≤ 1000) : QW w U := by
  have b3 := QV_b q (f := 3) (c := 16) rfl rfl rfl w
  have b9 := QV_b q (f := 9) (c := 12) rfl rfl rfl w
  have b19 := QV_b q (f := 19) (c := 120) rfl rfl rfl w
  refine ⟨⟨k.1, b3.2⟩, b9, b19, hb, fun s hs => ?_, fun b hb => ?_, fun j j1 j2 => ⟨p.2.2 j j1 j2, QV_b q (f := 15) (c := 4) rfl rfl rfl _⟩, fun j j1 j2 => PK_kO k j1 j2⟩
  · obtain ⟨p1, p2, p3, p4, p5, p6, p7, p8⟩ := p.1 s hs
    exact ⟨p1, p2, p3, p4, QV_b q (f := 30) (c := 4) rfl rfl rfl _, QV_b q (f := 33) (c := 4) rfl rfl rfl _, p5, p6, p7, fun j j1 j2 => ⟨p8 j j1 j2, QV_b q (f := 37) (c := 4) rfl rfl rfl _⟩⟩
  · exact p.2.1 b hb
/-- fields that the structure does not look at -/
def pqF (f : Nat) : Bool := f != 9 && f != 18 && f != 19 && f != 20 && f != 22 && f != 23 && f != 24 && f != 27 && f != 28 && f != 29 && f != 33 && f != 34 && f != 40 && f != 41 && f != 42 && f != 43 && f != 45 && f != 46
theorem PQ_up {f : Nat} {j x : Int} (p : PQ w U) (hf : pqF f = true) : PQ w (up U f j x) := by
  have e : ∀ g, pqF g = false → up U f j x g = U g := fun g hg => up_n (fun z => by rw [z, hf] at hg; cases hg)
  unfold PQ Ps Pb As Ab
  simp only [e 9 rfl, e 18 rfl, e 19 rfl, e 20 rfl, e 22 rfl, e 23 rfl, e 24 rfl, e 27 rfl, e 28 rfl, e 29 rfl, e 33 rfl, e 34 rfl, e 40 rfl, e 41 rfl, e 42 rfl, e 43 rfl, e 45 rfl, e 46 rfl]
  exact p
/-- a new block, not yet named by its statement -/
theorem PQ_new {what own num : Int} (p : PQ w U) (hw : (what = 0 ∧ own = -1) ∨ ((1 ≤ what ∧ what ≤ 9) ∧ As w U own)) (h6 : what = 6 → 0 ≤ num ∧ num < U 33 own) (hb : 0 ≤ U 40 w) : PQ w (tOU w what own num S U) := by
  unfold tOU tOB
  split
  · obtain ⟨p1, p2, p3⟩ := p
    unfold PQ Ps Pb As Ab at *
    simp only [up_eq, true_and, false_and, and_true, and_false, and_self, if_true, if_false, eq_self, Nat.reduceEqDiff, reduceIte]
    refine ⟨fun s hs => ?_, fun b hb => ?_, fun k k1 k2 => ?_⟩
    · obtain ⟨a1, a2, a3, a4, a5, a6, a7, a8⟩ := p1 s hs
      exact ⟨by omega, a2, a3, a4, by omega, by omega, by omega, fun k k1 k2 => by have := a8 k k1 k2; omega⟩
    · by_cases e : b = w * 1024 + U 40 w
      · simp only [if_pos e]
        refine ⟨?_, Or.inl trivial, Or.inl trivial, h6⟩
        rcases hw with z | z
        · exact Or.inl z
        · have := (p1 own z.2).1
          exact Or.inr ⟨z.1, z.2, by omega⟩
      · simp only [if_neg e]
        exact p2 b (by omega)
    · have := p3 k k1 k2
      omega
  · exact p
theorem tOR_b {what own num : Int} (hb : 0 ≤ U 40 w) : tOR w S U = -1 ∨ Ab w (tOU w what own num S U) (tOR w S U) := by
  unfold tOR tOU Ab tOB
  split
  · right
    simp only [up_eq, true_and, false_and, and_true, and_false, and_self, if_true, if_false, eq_self, Nat.reduceEqDiff, reduceIte]
    omega
  · left; rfl
theorem PQ_27 {s x : Int} (p : PQ w U) (hx : x = -1 ∨ Ab w U x) : PQ w (up U 27 s x) := by
  obtain ⟨p1, p2, p3⟩ := p
  unfold PQ Ps Pb As Ab at *
  simp only [up_eq, true_and, false_and, and_true, and_false, and_self, if_true, if_false, eq_self, Nat.reduceEqDiff, reduceIte]
  refine ⟨fun s' hs => ?_, p2, p3⟩
  obtain ⟨a1, a2, a3, a4, a5, a6, a7, a8⟩ := p1 s' hs
  exact ⟨a1, a2, a3, a4, by split <;> assumption, a6, a7, a8⟩
theorem PQ_28 {s x : Int} (p : PQ w U) (hx : x = -1 ∨ Ab w U x) : PQ w (up U 28 s x) := by
  obtain ⟨p1, p2, p3⟩ := p
  unfold PQ Ps Pb As Ab at *
  simp only [up_eq, true_and, false_and, and_true, and_false, and_self, if_true, if_false, eq_self, Nat.reduceEqDiff, reduceIte]
  refine ⟨fun s' hs => ?_, p2, p3⟩
  obtain ⟨a1, a2, a3, a4, a5, a6, a7, a8⟩ := p1 s' hs
  exact ⟨a1, a2, a3, a4, a5, by split <;> assumption, a7, a8⟩
theorem PQ_29 {s x : Int} (p : PQ w U) (hx : x = -1 ∨ Ab w U x) : PQ w (up U 29 s x) := by
  obtain ⟨p1, p2, p3⟩ := p
  unfold PQ Ps Pb As Ab at *
  simp only [up_eq, true_and, false_and, and_true, and_false, and_self, if_true, if_false, eq_self, Nat.reduceEqDiff, reduceIte]
  refine ⟨fun s' hs => ?_, p2, p3⟩
  obtain ⟨a1, a2, a3, a4, a5, a6, a7, a8⟩ := p1 s' hs
  exact ⟨a1, a2, a3, a4, a5, a6, by split <;> assumption, a8⟩
theorem PQ_18 {s x : Int} (p : PQ w U) (hx : x = -1 ∨ Ab w U x) : PQ w (up U 18 s x) := by
  obtain ⟨p1, p2, p3⟩ := p
  unfold PQ Ps Pb As Ab at *
  simp only [up_eq, true_and, false_and, and_true, and_false, and_self, if_true, if_false, eq_self, Nat.reduceEqDiff, reduceIte]
  exact ⟨p1, p2, fun k k1 k2 => by have := p3 k k1 k2; split <;> assumption⟩
theorem PQ_34 {s x : Int} (p : PQ w U) (hx : x = -1 ∨ Ab w U x) : PQ w (up U 34 s x) := by
  obtain ⟨p1, p2, p3⟩ := p
  unfold PQ Ps Pb As Ab at *
  simp only [up_eq, true_and, false_and, and_true, and_false, and_self, if_true, if_false, eq_self, Nat.reduceEqDiff, reduceIte]
  refine ⟨fun s' hs => ?_, p2, p3⟩
  obtain ⟨a1, a2, a3, a4, a5, a6, a7, a8⟩ := p1 s' hs
  exact ⟨a1, a2, a3, a4, a5, a6, a7, fun k k1 k2 => by have := a8 k k1 k2; split <;> assumption⟩
theorem PQ_20 {s x : Int} (p : PQ w U) (hx : 0 ≤ x ∧ x ≤ 11) : PQ w (up U 20 s x) := by
  obtain ⟨p1, p2, p3⟩ := p
  unfold PQ Ps Pb As Ab at *
  simp only [up_eq, true_and, false_and, and_true, and_false, and_self, if_true, if_false, eq_self, Nat.reduceEqDiff, reduceIte]
  refine ⟨fun s' hs => ?_, p2, p3⟩
  obtain ⟨a1, a2, a3, a4, a5, a6, a7, a8⟩ := p1 s' hs
  exact ⟨a1, a2, by split <;> assumption, a4, a5, a6, a7, a8⟩
end PQS
