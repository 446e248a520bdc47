/-! PURE: a statement is entered *-/
/-- the rows with a new statement s in block b, its sort not yet told -/
def tE0 (w s b : Int) (S U : tSt) : tSt := up (tEnter w s b S U) 20 s 0
section ENS
variable {w x s b c k : Int} {S U U' : tSt} {f : Nat}
theorem tLink_o (h1 : f ≠ 24) (h2 : f ≠ 45) (h3 : f ≠ 46) : tLink s b U f = U f := by
  unfold tLink
  split
  · rw [up_n h3, up_n h2]
  · rw [up_n h3, up_n h1]
theorem tE0_o (h1 : f ∉ [19, 20, 21, 22, 23, 24, 25, 27, 28, 29, 30, 33, 45, 46]) : tE0 w s b S U f = U f := by
  simp only [List.mem_cons, List.not_mem_nil, or_false, not_or] at h1
  obtain ⟨a1, a2, a3, a4, a5, a6, a7, a8, a9, a10, a11, a12, a13, a14⟩ := h1
  unfold tE0 tEnter
  rw [up_n a2, tLink_o a6 a13 a14]
  rw [up_n a12, up_n a11, up_n a10, up_n a9, up_n a8, up_n a7, up_n a6, up_n a5, up_n a4, up_n a3, up_n a1]
theorem tE0_v : tE0 w s b S U 19 w = U 19 w + 1 ∧ tE0 w s b S U 20 s = 0 ∧ tE0 w s b S U 21 s = S 49 0 ∧ tE0 w s b S U 22 s = b ∧ tE0 w s b S U 23 s = U 9 w - 1 ∧ tE0 w s b S U 33 s = 0 ∧ tE0 w s b S U 30 s = 0 := by
  unfold tE0 tEnter
  refine ⟨?_, ?_, ?_, ?_, ?_, ?_, ?_⟩
  · rw [up_n (by decide), tLink_o (by decide) (by decide) (by decide)]
    simp only [up_eq, true_and, false_and, and_true, and_false, and_self, if_true, if_false, eq_self, Nat.reduceEqDiff, reduceIte]
  · rw [up_s]
  all_goals
    rw [up_n (by decide), tLink_o (by decide) (by decide) (by decide)]
    simp only [up_eq, true_and, false_and, and_true, and_false, and_self, if_true, if_false, eq_self, Nat.reduceEqDiff, reduceIte]
theorem tE0_fu (hs : s = w * 120 + U 19 w) : FU w U (tE0 w s b S U) := by
  unfold tE0
  exact FU_st (FU_enter FU.refl (by omega)) (by omega) (by decide) (by decide)
theorem tFor_sn {α : Type} (g : Int → α → α) : ∀ (d : Nat) (j : Int) (a : α), tFor g (d + 1) j a = g (j + d) (tFor g d j a) := by
  intro d
  induction d with
  | zero =>
    intro j a
    rw [tFor, tFor, tFor, show j + ((0 : Nat) : Int) = j by omega]
  | succ d ih =>
    intro j a
    rw [tFor, ih (j + 1), tFor, show j + 1 + (d : Int) = j + ((d + 1 : Nat) : Int) by omega]
theorem tCat_sn {α : Type} (g : Int → List α) (d : Nat) (j : Int) : tCat g (d + 1) j = tCat g d j ++ g (j + d) := tFor_sn _ d j []
theorem tFor_cg {α : Type} {g g' : Int → α → α} : ∀ (d : Nat) (j : Int) (a : α), (∀ k z, j ≤ k → k < j + d → g' k z = g k z) → tFor g' d j a = tFor g d j a := by
  intro d
  induction d with
  | zero => intro j a _; rfl
  | succ d ih =>
    intro j a e
    rw [tFor, tFor, e j a (by omega) (by omega), ih (j + 1) _ (fun k z h1 h2 => e k z (by omega) (by omega))]
theorem mKind_fu (h : FU w U U') (w0 : 0 ≤ w ∧ w ≤ 1) (n3 : 4 ≤ U 3 w ∧ U 3 w ≤ 16) (k1 : k < 16) : mKind U' w k = mKind U w k := by
  unfold mKind
  rw [kO_fu h w0 n3, kO_fu h w0 n3, h.fk (f := 4) (by decide) (by omega), h.fk (f := 5) (by decide) (by omega), h.fk (f := 7) (by decide) (by omega), h.fk (f := 8) (by decide) (by omega)]
theorem mPm_fu (h : FU w U U') (w0 : 0 ≤ w ∧ w ≤ 1) (n3 : 4 ≤ U 3 w ∧ U 3 w ≤ 16) (n9 : 0 ≤ U 9 w ∧ U 9 w ≤ 12) (qv : QV U) (k1 : k < 12) : mPm U' w k = mPm U w k := by
  have b15 := QV_b qv (f := 15) (c := 4) rfl rfl rfl (w * 12 + k)
  unfold mPm
  rw [mO_fu h w0 n9, h.fk (f := 10) (by decide) (by omega), h.fk (f := 11) (by decide) (by omega), h.fk (f := 15) (by decide) (by omega)]
  congr 1
  refine tCat_congr _ _ (fun i i0 i1 => ?_)
  rw [kO_fu h w0 n3, h.fk (f := 16) (by decide) (by omega), h.fk (f := 17) (by decide) (by omega)]
theorem mPs_fu (h : FU w U U') (p : PQ w U) (qv : QV U) (w0 : 0 ≤ w ∧ w ≤ 1) (n3 : 4 ≤ U 3 w ∧ U 3 w ≤ 16) (hs : As w U s) : mPs U' w s = mPs U w s := by
  have ab := (p.1 s hs).1
  have e := fun f h1 h2 h3 => h.fs (f := f) hs h1 h2 h3
  have b30 := QV_b qv (f := 30) (c := 4) rfl rfl rfl s
  have b33 := QV_b qv (f := 33) (c := 4) rfl rfl rfl s
  unfold mPs
  rw [e 20 (by decide) (by decide) (by decide), e 22 (by decide) (by decide) (by decide), e 25 (by decide) (by decide) (by decide), e 26 (by decide) (by decide) (by decide), e 30 (by decide) (by decide) (by decide), e 33 (by decide) (by decide) (by decide), pO_fu h p qv w0.1 ab, kO_fu h w0 n3]
  have m3 : mSet U' s (pO U (U 25 s) (U 22 s)).1 (pO U (U 25 s) (U 22 s)).2 = mSet U s (pO U (U 25 s) (U 22 s)).1 (pO U (U 25 s) (U 22 s)).2 := by
    unfold mSet
    rw [e 26 (by decide) (by decide) (by decide)]
    by_cases z : (pO U (U 25 s) (U 22 s)).1 = -1
    · rw [if_pos z, if_pos z]
    · rw [if_neg z, if_neg z]
      obtain ⟨q1, q2, q3⟩ := pO_As p qv w0.1 ab z
      have := h.fn (f := 37) (i := (pO U (U 25 s) (U 22 s)).1 % 4) q1 (by decide) (by omega)
      rw [show 4 * ((pO U (U 25 s) (U 22 s)).1 / 4) + (pO U (U 25 s) (U 22 s)).1 % 4 = (pO U (U 25 s) (U 22 s)).1 by omega] at this
      rw [this]
  rw [m3]
  congr 1
  congr 1
  congr 1
  · refine tCat_congr _ _ (fun i i0 i1 => ?_)
    rw [h.fn (f := 35) hs (by decide) (by omega), h.fn (f := 36) hs (by decide) (by omega), h.fn (f := 37) hs (by decide) (by omega), pO_fu h p qv w0.1 ab]
    congr 1
    have b37 := QV_b qv (f := 37) (c := 4) rfl rfl rfl (4 * s + i)
    refine tCat_congr _ _ (fun k k0 k1 => ?_)
    have hc : As w U ((4 * s + i) / 4) := by rw [show (4 * s + i) / 4 = s by omega]; exact hs
    unfold cK
    rw [h.fm (f := 38) hc (by decide) (by omega), h.fm (f := 39) hc (by decide) (by omega), kO_fu h w0 n3]
  · congr 1
    refine tCat_congr _ _ (fun k k0 k1 => ?_)
    rw [h.fn (f := 31) hs (by decide) (by omega), h.fn (f := 32) hs (by decide) (by omega), kO_fu h w0 n3]
end ENS
