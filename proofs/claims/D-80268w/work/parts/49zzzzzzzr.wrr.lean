/-! COMPONENT, 97: a method more: the rows *-/
/-- the rows with a method x more, its number not yet counted -/
def WRy (x n p n2 p2 fr : Int) (N : List (Int × Int)) (U V : tSt) : Prop :=
  (∀ f, f ≤ 9 ∨ 19 ≤ f → V f = U f) ∧ (∀ f j, 10 ≤ f ∧ f ≤ 15 ∨ f = 18 → j ≠ x → V f j = U f j) ∧ (∀ f j, f = 16 ∨ f = 17 → j < 4 * x ∨ 4 * x + 4 ≤ j → V f j = U f j) ∧
  (V 10 x = n ∧ V 11 x = p ∧ V 12 x = n2 ∧ (n2 ≠ 0 → V 13 x = p2) ∧ V 14 x = fr ∧ V 15 x = N.length ∧ V 18 x = -1) ∧ ∀ i : Int, 0 ≤ i → i < N.length → V 16 (4 * x + i) = (N.getD i.toNat (0, 0)).1 ∧ V 17 (4 * x + i) = (N.getD i.toNat (0, 0)).2
section WRS
variable {w x n p n2 p2 fr : Int} {N : List (Int × Int)} {S U V : tSt}
/-- rows at the beginning of a method -/
def wy0 (x n p : Int) (U : tSt) : tSt := up (up (up (up (up U 10 x n) 11 x p) 12 x 0) 15 x 0) 18 x (-1)
theorem WR_mk {b : Bool} (hN4 : N.length ≤ 4) (hn : b = true → n2 ≠ 0) (hb : b = false → n2 = 0) : WRy x n p n2 p2 fr N U (nW 15 16 17 x N (up (if b = true then up (up (wy0 x n p U) 12 x n2) 13 x p2 else wy0 x n p U) 14 x fr)) := by
  have e15 : up (if b = true then up (up (wy0 x n p U) 12 x n2) 13 x p2 else wy0 x n p U) 14 x fr 15 x = 0 := by
    unfold wy0
    cases b <;> simp only [up_eq, true_and, false_and, and_true, and_false, and_self, if_true, if_false, eq_self, Nat.reduceEqDiff, reduceIte, if_true, if_false, Bool.false_eq_true, ↓reduceIte]
  have ee : ∀ f, f < 10 ∨ 18 < f → up (if b = true then up (up (wy0 x n p U) 12 x n2) 13 x p2 else wy0 x n p U) 14 x fr f = U f := fun f hf => by
    unfold wy0
    rw [up_n (by omega)]
    split
    · rw [up_n (by omega), up_n (by omega), up_n (by omega), up_n (by omega), up_n (by omega), up_n (by omega), up_n (by omega)]
    · rw [up_n (by omega), up_n (by omega), up_n (by omega), up_n (by omega), up_n (by omega)]
  have ej : ∀ f j, j ≠ x → up (if b = true then up (up (wy0 x n p U) 12 x n2) 13 x p2 else wy0 x n p U) 14 x fr f j = U f j := fun f j hj => by
    unfold wy0
    rw [up_eq, if_neg (fun z => hj z.2)]
    split
    · simp only [up_eq]
      rw [if_neg (fun z => hj z.2), if_neg (fun z => hj z.2), if_neg (fun z => hj z.2), if_neg (fun z => hj z.2), if_neg (fun z => hj z.2), if_neg (fun z => hj z.2), if_neg (fun z => hj z.2)]
    · simp only [up_eq]
      rw [if_neg (fun z => hj z.2), if_neg (fun z => hj z.2), if_neg (fun z => hj z.2), if_neg (fun z => hj z.2), if_neg (fun z => hj z.2)]
  have e16 : ∀ f, f = 16 ∨ f = 17 → up (if b = true then up (up (wy0 x n p U) 12 x n2) 13 x p2 else wy0 x n p U) 14 x fr f = U f := fun f hf => by
    unfold wy0
    rw [up_n (by omega)]
    split
    · rw [up_n (by omega), up_n (by omega), up_n (by omega), up_n (by omega), up_n (by omega), up_n (by omega), up_n (by omega)]
    · rw [up_n (by omega), up_n (by omega), up_n (by omega), up_n (by omega), up_n (by omega)]
  have ev : ∀ f y, (f = 10 ∧ y = n) ∨ (f = 11 ∧ y = p) ∨ (f = 12 ∧ y = n2) ∨ (f = 14 ∧ y = fr) ∨ (f = 18 ∧ y = -1) ∨ (f = 13 ∧ y = p2 ∧ b = true) → up (if b = true then up (up (wy0 x n p U) 12 x n2) 13 x p2 else wy0 x n p U) 14 x fr f x = y := fun f y h => by
    unfold wy0
    rcases h with ⟨rfl, rfl⟩ | ⟨rfl, rfl⟩ | ⟨rfl, rfl⟩ | ⟨rfl, rfl⟩ | ⟨rfl, rfl⟩ | ⟨rfl, rfl, h⟩
    · cases b <;> simp only [up_eq, true_and, false_and, and_true, and_false, and_self, if_true, if_false, eq_self, Nat.reduceEqDiff, reduceIte, ↓reduceIte, Bool.false_eq_true]
    · cases b <;> simp only [up_eq, true_and, false_and, and_true, and_false, and_self, if_true, if_false, eq_self, Nat.reduceEqDiff, reduceIte, ↓reduceIte, Bool.false_eq_true]
    · cases b
      · simp only [up_eq, true_and, false_and, and_true, and_false, and_self, if_true, if_false, eq_self, Nat.reduceEqDiff, reduceIte, ↓reduceIte, Bool.false_eq_true]; exact (hb rfl).symm
      · simp only [up_eq, true_and, false_and, and_true, and_false, and_self, if_true, if_false, eq_self, Nat.reduceEqDiff, reduceIte, ↓reduceIte]
    · cases b <;> simp only [up_eq, true_and, false_and, and_true, and_false, and_self, if_true, if_false, eq_self, Nat.reduceEqDiff, reduceIte, ↓reduceIte, Bool.false_eq_true]
    · cases b <;> simp only [up_eq, true_and, false_and, and_true, and_false, and_self, if_true, if_false, eq_self, Nat.reduceEqDiff, reduceIte, ↓reduceIte, Bool.false_eq_true]
    · rw [h]
      simp only [up_eq, true_and, false_and, and_true, and_false, and_self, if_true, if_false, eq_self, Nat.reduceEqDiff, reduceIte, ↓reduceIte]
  generalize up (if b = true then up (up (wy0 x n p U) 12 x n2) 13 x p2 else wy0 x n p U) 14 x fr = W at *
  have o : ∀ f j, f ≠ 15 → f ≠ 16 → f ≠ 17 → nW 15 16 17 x N W f j = W f j := fun f j a b c => nW_o N W f j a b c
  refine ⟨fun f hf => ?_, fun f j hf hj => ?_, fun f j hf hj => ?_, ⟨?_, ?_, ?_, fun z => ?_, ?_, ?_, ?_⟩, fun i i0 i1 => ?_⟩
  · funext j
    rw [o f j (by omega) (by omega) (by omega), ee f (by omega)]
  · by_cases h : f = 15
    · subst h
      rw [nW_c (by decide) (by decide), if_neg hj, ej _ _ hj]
    · rw [o f j h (by omega) (by omega), ej _ _ hj]
  · have y := nW_w (fc := 15) (fw := 16) (fp := 17) (x := x) (by decide) (by decide) (by decide) N W j
    rw [e15] at y
    rcases hf with rfl | rfl
    · rw [y.1, if_neg (by omega), e16 16 (Or.inl rfl)]
    · rw [y.2, if_neg (by omega), e16 17 (Or.inr rfl)]
  · rw [o 10 x (by decide) (by decide) (by decide)]; exact ev 10 n (by simp)
  · rw [o 11 x (by decide) (by decide) (by decide)]; exact ev 11 p (by simp)
  · rw [o 12 x (by decide) (by decide) (by decide)]; exact ev 12 n2 (by simp)
  · rw [o 13 x (by decide) (by decide) (by decide)]
    have hb1 : b = true := by
      cases b
      · exact absurd (hb rfl) z
      · rfl
    exact ev 13 p2 (by simp [hb1])
  · rw [o 14 x (by decide) (by decide) (by decide)]; exact ev 14 fr (by simp)
  · rw [nW_c (by decide) (by decide), if_pos rfl, e15, Int.zero_add]
  · rw [o 18 x (by decide) (by decide) (by decide)]; exact ev 18 (-1) (by simp)
  · have y := nW_w (fc := 15) (fw := 16) (fp := 17) (x := x) (by decide) (by decide) (by decide) N W (4 * x + i)
    rw [e15] at y
    rw [y.1, y.2, if_pos (by omega), if_pos (by omega), show 4 * x + i - (4 * x + 0) = i by omega]
    exact ⟨rfl, rfl⟩
theorem tFst_no (P : Int → Bool) : ∀ (d : Nat) (k : Int), 0 ≤ k → tFst P d k = -1 → ∀ j, k ≤ j → j < k + d → P j = false := by
  intro d
  induction d with
  | zero => intro k _ _ j h1 h2; omega
  | succ d ih =>
    intro k k0 e j h1 h2
    rw [tFst] at e
    by_cases h : P k = true
    · rw [if_pos h] at e; omega
    · rw [if_neg h] at e
      by_cases z : j = k
      · rw [z]; exact Bool.eq_false_iff.mpr h
      · exact ih (k + 1) (by omega) e j (by omega) (by omega)
theorem mO_own {m : Int} (h0 : 0 ≤ m) (h1 : m < U 9 w) : mO U w (U 10 (w * 12 + m)) ≠ -1 := fun e => by
  have := tFst_no _ _ _ (Int.le_refl _) e m h0 (by omega)
  simp at this
theorem mO_wr {y : Int} (wr : WRy (w * 12 + U 9 w) n p n2 p2 fr N U V) (h9 : 0 ≤ U 9 w) : mO (up V 9 w (U 9 w + 1)) w y = if mO U w y = -1 then (if y = n then U 9 w else -1) else mO U w y := by
  unfold mO
  rw [up_s, show (U 9 w + 1).toNat = (U 9 w).toNat + 1 by omega, tFst_app _ _ _ (Int.le_refl _)]
  have e : tFst (fun k => decide (up V 9 w (U 9 w + 1) 10 (w * 12 + k) = y)) (U 9 w).toNat 0 = tFst (fun k => decide (U 10 (w * 12 + k) = y)) (U 9 w).toNat 0 :=
    tFst_congr _ _ (fun j a b => by rw [up_n (by decide), wr.2.1 10 _ (by decide) (by omega)])
  rw [e, show (0 : Int) + ((U 9 w).toNat : Int) = U 9 w by omega, up_n (by decide), wr.2.2.2.1.1]
  congr 1
  by_cases h : y = n
  · rw [if_pos h, if_pos (by rw [h]; simp)]
  · rw [if_neg h, if_neg (by simp; intro z; exact absurd z.symm h)]
theorem kO_wr {y a : Int} (wr : WRy x n p n2 p2 fr N U V) {k : Int} : kO (up V 9 w k) w y a = kO U w y a := by
  unfold kO
  rw [up_n (by decide), up_n (by decide), up_n (by decide), wr.1 3 (by decide), wr.1 4 (by decide), wr.1 6 (by decide)]
theorem mPm_old {m : Int} (wr : WRy (w * 12 + U 9 w) n p n2 p2 fr N U V) (qv : QV U) (h0 : 0 ≤ m) (h1 : m < U 9 w) : mPm (up V 9 w (U 9 w + 1)) w m = mPm U w m := by
  have b15 := QV_b qv (f := 15) (c := 4) rfl rfl rfl (w * 12 + m)
  have e : ∀ f, 10 ≤ f ∧ f ≤ 15 ∨ f = 18 → up V 9 w (U 9 w + 1) f (w * 12 + m) = U f (w * 12 + m) := fun f hf => by rw [up_n (by omega), wr.2.1 f _ hf (by omega)]
  unfold mPm
  rw [e 10 (by decide), e 11 (by decide), e 15 (by decide), mO_wr wr (by omega), if_neg (mO_own h0 h1)]
  congr 1
  refine tCat_congr _ _ (fun i i0 i1 => ?_)
  have e' : ∀ f, f = 16 ∨ f = 17 → up V 9 w (U 9 w + 1) f (4 * (w * 12 + m) + i) = U f (4 * (w * 12 + m) + i) := fun f hf => by rw [up_n (by omega), wr.2.2.1 f _ hf (by omega)]
  rw [e' 16 (Or.inl rfl), e' 17 (Or.inr rfl), kO_wr wr]
theorem mPm_new (wr : WRy (w * 12 + U 9 w) n p n2 p2 fr N U V) (h9 : 0 ≤ U 9 w ∧ U 9 w ≤ 12) : mPm (up V 9 w (U 9 w + 1)) w (U 9 w) = (if mO U w n = -1 then [] else [(2, (p, -1))]) ++ mNs U w N := by
  unfold mPm
  have mb := mO_b (U := U) (w := w) (x := n) h9
  have e10 : up V 9 w (U 9 w + 1) 10 = V 10 := up_n (by decide)
  have e11 : up V 9 w (U 9 w + 1) 11 = V 11 := up_n (by decide)
  have e15 : up V 9 w (U 9 w + 1) 15 = V 15 := up_n (by decide)
  have e16 : up V 9 w (U 9 w + 1) 16 = V 16 := up_n (by decide)
  have e17 : up V 9 w (U 9 w + 1) 17 = V 17 := up_n (by decide)
  rw [mO_wr wr h9.1, e10, e11, e15, wr.2.2.2.1.1, wr.2.2.2.1.2.1, wr.2.2.2.1.2.2.2.2.2.1, if_pos rfl]
  congr 1
  · by_cases e : mO U w n = -1
    · rw [if_pos e, if_pos e, if_neg (fun z => z rfl)]
    · rw [if_neg e, if_neg e, if_pos (by omega)]
  · rw [← mNs_cat U w N, Int.toNat_natCast]
    refine tCat_congr _ _ (fun i i0 i1 => ?_)
    have y := wr.2.2.2.2 i i0 (by omega)
    rw [e16, e17, y.1, y.2, kO_wr wr]
end WRS
