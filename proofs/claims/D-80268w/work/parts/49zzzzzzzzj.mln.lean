/-! PURE: how many mistakes there are at most *-/
section MLN
variable {w : Int} {S U : tSt} {c l : Int → Int}
theorem tCat_sI {α : Type} {f : Int → List α} {g : Int → Int} : ∀ (d : Nat) (j : Int), (∀ k, j ≤ k → k < j + d → ((f k).length : Int) ≤ g k) → ((tCat f d j).length : Int) ≤ sI g d j := by
  intro d
  induction d with
  | zero => intro j _; exact Int.le_refl _
  | succ d ih =>
    intro j h
    rw [tCat_sn, sI_sn, List.length_append]
    have a := ih j (fun k h1 h2 => h k h1 (by omega))
    have b := h (j + d) (by omega) (by omega)
    omega
theorem sI_const {k : Int} : ∀ (d : Nat) (j : Int), sI (fun _ => k) d j = k * d := by
  intro d
  induction d with
  | zero => intro j; show (0 : Int) = _; simp
  | succ d ih =>
    intro j
    rw [sI_sn, ih j]
    show k * (d : Int) + k = k * ((d + 1 : Nat) : Int)
    rw [Int.natCast_add, Int.mul_add]
    simp
theorem if_l1 {α : Type} {p : Prop} [Decidable p] {a : α} : ((if p then [a] else []).length : Int) ≤ 1 := by
  split
  · exact Int.le_refl _
  · show (0 : Int) ≤ 1; decide
theorem mUnt_l {s t a : Int} (n3 : 0 ≤ U 3 w ∧ U 3 w ≤ 16) : ((mUnt U w s t a).length : Int) ≤ 16 := by
  unfold mUnt
  have := tCat_sI (f := fun k => if sHas s k = true ∧ chk U w k = true ∧ und U w k t = false then [((9 : Int), (a, k))] else []) (g := fun _ => 1) (U 3 w).toNat 0 (fun k _ _ => if_l1)
  rw [sI_const] at this
  omega
theorem sHas_z {k : Int} : sHas 0 k = false := by
  unfold sHas
  simp
theorem mUnt_0 {t a : Int} : mUnt U w 0 t a = [] := by
  unfold mUnt
  have : ∀ (d : Nat) (j : Int), tCat (fun k => if sHas 0 k = true ∧ chk U w k = true ∧ und U w k t = false then [((9 : Int), (a, k))] else []) d j = [] := by
    intro d
    induction d with
    | zero => intro j; rfl
    | succ d ih =>
      intro j
      rw [tCat_s, ih, sHas_z]
      simp
  exact this _ _
theorem mMeth_l {m : Int} (n3 : 0 ≤ U 3 w ∧ U 3 w ≤ 16) (h15 : 0 ≤ U 15 (w * 12 + m)) : ((mMeth U w c m).length : Int) ≤ wm U (w * 12 + m) := by
  unfold mMeth wm
  have a := if_l1 (p := mO U w (U 10 (w * 12 + m)) ≠ m) (a := ((2 : Int), (U 11 (w * 12 + m), (-1 : Int))))
  have b := if_l1 (p := U 12 (w * 12 + m) ≠ 0 ∧ mOver U w (w * 12 + m) = -1) (a := ((1 : Int), (U 13 (w * 12 + m), (-1 : Int))))
  have d : ((tCat (mTold U w (w * 12 + m) (mOver U w (w * 12 + m))) (U 15 (w * 12 + m)).toNat 0).length : Int) ≤ U 15 (w * 12 + m) := by
    have := tCat_sI (f := mTold U w (w * 12 + m) (mOver U w (w * 12 + m))) (g := fun _ => 1) (U 15 (w * 12 + m)).toNat 0 (fun k _ _ => by
      unfold mTold
      split
      · exact Int.le_refl _
      · exact if_l1)
    rw [sI_const] at this
    omega
  rw [List.length_append, List.length_append, List.length_append]
  by_cases z : U 18 (w * 12 + m) = -1
  · rw [if_pos z]
    have e : mUnt U w (bC U w c (U 18 (w * 12 + m))) (thO U w m) (U 11 (w * 12 + m)) = [] := by
      unfold bC
      rw [if_pos z, mUnt_0]
    rw [e]
    show ((_ + (_ + (_ + 0)) : Nat) : Int) ≤ _
    omega
  · rw [if_neg z]
    have := mUnt_l (w := w) (U := U) (s := bC U w c (U 18 (w * 12 + m))) (t := thO U w m) (a := U 11 (w * 12 + m)) n3
    omega
theorem mCgt_l {i k : Int} {cc : Int} : ((mCgt U w i cc k).length : Int) ≤ 3 := by
  unfold mCgt
  split
  · show (1 : Int) ≤ 3; decide
  · rw [List.length_append, List.length_append]
    have a := if_l1 (p := 1 < cK U w cc k ∧ chk U w (cK U w cc k) = true ∧ tFor (fun q a => a || (sHas i q && bel U w q (cK U w cc k))) (U 3 w).toNat 0 (und U w (cK U w cc k) i) = false) (a := ((3 : Int), (U 39 (4 * cc + k), cK U w cc k)))
    have b := if_l1 (p := und U w (cK U w cc k) (ahd U w cc) = true) (a := ((4 : Int), (U 39 (4 * cc + k), cK U w cc k)))
    have d := if_l1 (p := tFor (fun j a => a || (decide (cK U w cc j ≠ -1) && (bel U w (cK U w cc k) (cK U w cc j) || bel U w (cK U w cc j) (cK U w cc k)))) k.toNat 0 false = true) (a := ((5 : Int), (U 39 (4 * cc + k), cK U w cc k)))
    omega
theorem mTry_l {s : Int} (h30 : 0 ≤ U 30 s) (h37 : ∀ k, 0 ≤ U 37 k) : ((mTry U w c s).length : Int) ≤ U 30 s + sI (fun k => 1 + 3 * U 37 (4 * s + k)) (U 33 s).toNat 0 := by
  unfold mTry
  rw [List.length_append]
  have a := tCat_sI (f := fun k => if mO U w (U 31 (4 * s + k)) = -1 then [((1 : Int), (U 32 (4 * s + k), (-1 : Int)))] else []) (g := fun _ => 1) (U 30 s).toNat 0 (fun k _ _ => if_l1)
  rw [sI_const] at a
  have b := tCat_sI (f := fun i => (if (pO U (U 35 (4 * s + i)) (U 22 s)).1 ≠ -1 then [((2 : Int), (U 36 (4 * s + i), (-1 : Int)))] else []) ++ tCat (mCgt U w (chO U w (ins U w c s)) (4 * s + i)) (U 37 (4 * s + i)).toNat 0) (g := fun k => 1 + 3 * U 37 (4 * s + k)) (U 33 s).toNat 0 (fun k _ _ => by
    rw [List.length_append]
    have x := if_l1 (p := (pO U (U 35 (4 * s + k)) (U 22 s)).1 ≠ -1) (a := ((2 : Int), (U 36 (4 * s + k), (-1 : Int))))
    have y := tCat_sI (f := mCgt U w (chO U w (ins U w c s)) (4 * s + k)) (g := fun _ => 3) (U 37 (4 * s + k)).toNat 0 (fun j _ _ => mCgt_l)
    rw [sI_const] at y
    have := h37 (4 * s + k)
    omega)
  omega
theorem mStm_l {s : Int} (n3 : 0 ≤ U 3 w ∧ U 3 w ≤ 16) (h30 : 0 ≤ U 30 s) (h37 : ∀ k, 0 ≤ U 37 k) : ((mStm U w c l s).length : Int) ≤ wt U s := by
  have e3 : U 20 s ≠ 10 → U 20 s ≠ 9 → wt U s = 3 := fun h1 h2 => by unfold wt; rw [if_neg h1, if_neg h2]
  have e9 : U 20 s = 9 → wt U s = 3 + U 30 s + sI (fun k => 1 + 3 * U 37 (4 * s + k)) (U 33 s).toNat 0 := fun h => by unfold wt; rw [if_neg (by omega), if_pos h]
  have e10 : U 20 s = 10 → wt U s = 17 + U 30 s := fun h => by unfold wt; rw [if_pos h]
  unfold mStm
  rw [List.length_append]
  have z := if_l1 (p := U 24 s ≠ -1 ∧ l s = 0) (a := ((7 : Int), (U 21 (U 24 s), (-1 : Int))))
  by_cases q1 : U 20 s = 1
  · rw [if_pos q1, e3 (by omega) (by omega)]
    have : (((if mO U w (U 25 s) = -1 then [((1 : Int), (U 26 s, (-1 : Int)))] else if U 27 s ≠ -1 ∧ U 14 (w * 12 + mO U w (U 25 s)) = 0 then [(11, (U 44 (U 27 s), -1))] else []).length : Nat) : Int) ≤ 1 := by
      split
      · exact Int.le_refl _
      · exact if_l1
    omega
  · rw [if_neg q1]
    by_cases q2 : U 20 s = 2
    · rw [if_pos q2, e3 (by omega) (by omega), List.length_append]
      have a := if_l1 (p := (pO U (U 25 s) (U 22 s)).1 = -1 ∧ kO U w (U 25 s) (U 26 s) = -1) (a := ((1 : Int), (U 26 s, (-1 : Int))))
      have b := if_l1 (p := (pO U (U 25 s) (U 22 s)).1 ≠ -1 ∧ (pO U (U 25 s) (U 22 s)).2 = true ∧ isS U w (pO U (U 25 s) (U 22 s)).1 = true) (a := ((12 : Int), (U 26 s, (-1 : Int))))
      omega
    · rw [if_neg q2]
      by_cases q3 : U 20 s = 3
      · rw [if_pos q3, e3 (by omega) (by omega)]
        have : ((mSet U s (pO U (U 25 s) (U 22 s)).1 (pO U (U 25 s) (U 22 s)).2).length : Int) ≤ 2 := by
          unfold mSet
          split
          · show (1 : Int) ≤ 2; decide
          · rw [List.length_append]
            have a := if_l1 (p := 1 < U 37 (pO U (U 25 s) (U 22 s)).1) (a := ((6 : Int), (U 26 s, (-1 : Int))))
            have b := if_l1 (p := (pO U (U 25 s) (U 22 s)).2 = true) (a := ((12 : Int), (U 26 s, (-1 : Int))))
            omega
        omega
      · rw [if_neg q3]
        by_cases q9 : U 20 s = 9
        · rw [if_pos q9, e9 q9]
          have := mTry_l (w := w) (c := c) (s := s) h30 h37
          omega
        · rw [if_neg q9]
          by_cases q10 : U 20 s = 10
          · rw [if_pos q10, e10 q10, List.length_append]
            have a := tCat_sI (f := fun k => if kO U w (U 31 (4 * s + k)) (U 32 (4 * s + k)) = -1 then [((1 : Int), (U 32 (4 * s + k), (-1 : Int)))] else []) (g := fun _ => 1) (U 30 s).toNat 0 (fun k _ _ => if_l1)
            rw [sI_const] at a
            have b := mUnt_l (w := w) (U := U) (s := bC U w c (U 27 s)) (t := nmO U w s) (a := U 21 s) n3
            omega
          · rw [if_neg q10, e3 q10 q9]
            have a : (((if U 20 s = 7 then (if tgt U s = -1 then [((8 : Int), (U 21 s, (-1 : Int)))] else []) else []).length : Nat) : Int) ≤ 1 := by
              split
              · exact if_l1
              · show (0 : Int) ≤ 1; decide
            omega
theorem mAll_l (qv : QV U) (n4 : 4 ≤ U 3 w) : ((mAll U w c l).length : Int) ≤ Wt w U := by
  have b3 := QV_b qv (f := 3) (c := 16) rfl rfl rfl w
  have b19 := QV_b qv (f := 19) (c := 120) rfl rfl rfl w
  unfold mAll Wt
  rw [List.length_append, List.length_append]
  have a := tCat_sI (f := mKind U w) (g := fun _ => 2) (U 3 w - 4).toNat 4 (fun k _ _ => by
    unfold mKind
    rw [List.length_append]
    have x := if_l1 (p := kO U w (U 4 (w * 16 + k)) (U 5 (w * 16 + k)) ≠ -1) (a := ((2 : Int), (U 5 (w * 16 + k), (-1 : Int))))
    have y := if_l1 (p := kO U w (U 7 (w * 16 + k)) (U 8 (w * 16 + k)) = -1) (a := ((1 : Int), (U 8 (w * 16 + k), (-1 : Int))))
    omega)
  rw [sI_const] at a
  have b := tCat_sI (f := mMeth U w c) (g := fun k => wm U (w * 12 + k)) (U 9 w).toNat 0 (fun k _ _ => mMeth_l b3 (QV_b qv (f := 15) (c := 4) rfl rfl rfl _).1)
  have d := tCat_sI (f := fun k => mStm U w c l (w * 120 + k)) (g := fun k => wt U (w * 120 + k)) (U 19 w).toNat 0 (fun k _ _ => mStm_l b3 (QV_b qv (f := 30) (c := 4) rfl rfl rfl _).1 (fun k => (QV_b qv (f := 37) (c := 4) rfl rfl rfl _).1))
  omega
theorem mAll_go (p : PWt w S U) (qv : QV U) (n4 : 4 ≤ U 3 w) (h55 : S 55 0 = 0) : ((mAll U w c l).length : Int) ≤ 3 * S 49 0 := by
  have a := mAll_l (c := c) (l := l) qv n4
  unfold PWt Cr at p
  rw [h55] at p
  have : sI (fun i => cr (U 41 (S 56 i))) (0 : Int).toNat 0 = 0 := rfl
  omega
end MLN
