/-! PURE: all mistakes are found: while reading, by linking, by judging *-/
section ACC
variable {w : Int} {U : tSt} {c l : Int → Int}
theorem tCat_cg2 {f f' : Int → List tMi} {F : Int → List tMi} (h : ∀ k, (F k).Perm (f k ++ f' k)) : ∀ (n : Nat) (j : Int), (tCat F n j).Perm (tCat f n j ++ tCat f' n j) := by
  intro n
  induction n with
  | zero => intro j; exact List.Perm.refl _
  | succ n ih =>
    intro j
    rw [tCat_s, tCat_s, tCat_s, List.perm_iff_count]
    intro x
    have a := List.perm_iff_count.mp (h j) x
    have b := List.perm_iff_count.mp (ih (j + 1)) x
    simp only [List.count_append] at *
    omega
theorem fm_add {f f' F : Int → List tMi} : ∀ (L : List Int), (∀ s, s ∈ L → (F s).Perm (f s ++ f' s)) → (L.flatMap F).Perm (L.flatMap f ++ L.flatMap f') := by
  intro L
  induction L with
  | nil => intro _; exact List.Perm.refl _
  | cons s L ih =>
    intro h
    rw [List.flatMap_cons, List.flatMap_cons, List.flatMap_cons, List.perm_iff_count]
    intro x
    have a := List.perm_iff_count.mp (h s List.mem_cons_self) x
    have b := List.perm_iff_count.mp (ih (fun t ht => h t (List.mem_cons_of_mem _ ht))) x
    simp only [List.count_append] at *
    omega
theorem fm_filter {f : Int → List tMi} {p : Int → Bool} : ∀ (L : List Int), (L.filter p).flatMap f = L.flatMap (fun s => if p s = true then f s else []) := by
  intro L
  induction L with
  | nil => rfl
  | cons s L ih =>
    rw [List.filter_cons, List.flatMap_cons]
    by_cases h : p s = true
    · rw [if_pos h, if_pos h, List.flatMap_cons, ih]
    · rw [if_neg h, if_neg h, ih]; rfl
def allS (U : tSt) (w : Int) : List Int := (List.range (U 19 w).toNat).map (fun (i : Nat) => w * 120 + (i : Int))
theorem stL_f {p : Int → Bool} {f : Int → List tMi} : (stL U w p).flatMap f = (allS U w).flatMap (fun s => if p s = true then f s else []) := fm_filter _
theorem tCat_fm {F : Int → List tMi} : ∀ (n : Nat), tCat (fun k => F (w * 120 + k)) n 0 = ((List.range n).map (fun (i : Nat) => w * 120 + (i : Int))).flatMap F := by
  intro n
  induction n with
  | zero => rfl
  | succ n ih =>
    rw [tCat_sn, ih, List.range_succ, List.map_append, List.flatMap_append, Int.zero_add]
    simp
theorem mStm_p (s : Int) : (mStm U w c l s).Perm ((((mPs U w s ++ (if decide (U 20 s = 1) = true then mL1 U w s else [])) ++ (if decide (U 20 s = 9) = true then mL2 U w s else [])) ++ (if isO U s = true then mL3 U w s else [])) ++ mJs U w c l s) := by
  unfold mStm mJs mJ7
  rw [← List.append_assoc]
  refine List.Perm.append_right _ ?_
  by_cases h1 : U 20 s = 1
  · have e1 : mPs U w s = [] := by unfold mPs; rw [if_neg (by omega), if_neg (by omega), if_neg (by omega), if_neg (by omega)]
    have e3 : isO U s = false := by unfold isO; rw [decide_eq_false (p := U 20 s = 2) (by omega)]; rfl
    unfold mJ0 mL1 mM1
    rw [if_pos h1, e1, e3, if_pos h1, decide_eq_true h1, decide_eq_false (p := U 20 s = 9) (by omega)]
    by_cases z : mO U w (U 25 s) = -1
    · simp [z]
    · simp [z]
  · rw [if_neg h1]
    have d1 : decide (U 20 s = 1) = false := decide_eq_false h1
    rw [d1]
    by_cases h2 : U 20 s = 2
    · have m0 : mJ0 U w c s = [] := by unfold mJ0; rw [if_neg (by omega), if_neg (by omega), if_neg (by omega), if_neg (by omega)]
      rw [if_pos h2, m0, decide_eq_false (p := U 20 s = 9) (by omega)]
      unfold mPs mL3 isO
      rw [if_pos h2, decide_eq_true h2]
      by_cases a : (pO U (U 25 s) (U 22 s)).1 ≠ -1
      · by_cases b : (pO U (U 25 s) (U 22 s)).2 = true
        · by_cases d : isS U w (pO U (U 25 s) (U 22 s)).1 = true
          · simp [a, b, d]
          · simp [a, b, d]
        · simp [a, b]
      · simp [a]
    · have e3 : isO U s = false := by unfold isO; rw [decide_eq_false h2]; rfl
      rw [if_neg h2, e3]
      by_cases h3 : U 20 s = 3
      · have m0 : mJ0 U w c s = [] := by unfold mJ0; rw [if_neg (by omega), if_neg (by omega), if_neg (by omega), if_neg (by omega)]
        rw [if_pos h3, m0, decide_eq_false (p := U 20 s = 9) (by omega)]
        unfold mPs
        rw [if_neg h2, if_pos h3]
        simp
      · rw [if_neg h3]
        by_cases h9 : U 20 s = 9
        · rw [if_pos h9, decide_eq_true h9]
          unfold mPs mJ0 mTry mL2
          rw [if_neg h2, if_neg h3, if_pos h9, if_neg h1, if_pos h9]
          have p1 := tCat_cg2 (F := fun i => (if (pO U (U 35 (4 * s + i)) (U 22 s)).1 ≠ -1 then [((2 : Int), (U 36 (4 * s + i), (-1 : Int)))] else []) ++ tCat (mCgt U w (chO U w (ins U w c s)) (4 * s + i)) (U 37 (4 * s + i)).toNat 0) (f := fun i => (if (pO U (U 35 (4 * s + i)) (U 22 s)).1 ≠ -1 then [((2 : Int), (U 36 (4 * s + i), (-1 : Int)))] else []) ++ tCat (fun k => if cK U w (4 * s + i) k = -1 then [((1 : Int), (U 39 (4 * (4 * s + i) + k), (-1 : Int)))] else []) (U 37 (4 * s + i)).toNat 0) (f' := fun i => tCat (mCj U w (chO U w (ins U w c s)) (4 * s + i)) (U 37 (4 * s + i)).toNat 0) (fun i => by
            rw [List.append_assoc]
            refine List.Perm.append_left _ (tCat_cg2 (fun k => ?_) _ _)
            unfold mCgt mCj
            by_cases z : cK U w (4 * s + i) k = -1
            · rw [if_pos z, if_pos z, if_pos z]; exact List.Perm.refl _
            · rw [if_neg z, if_neg z, if_neg z]; exact List.Perm.refl _) (U 33 s).toNat 0
          rw [List.perm_iff_count] at p1 ⊢
          intro x
          have := p1 x
          have e : tCat (fun k => if mO U w (U 31 (4 * s + k)) = -1 then [((1 : Int), (U 32 (4 * s + k), (-1 : Int)))] else []) (U 30 s).toNat 0 = tCat (fun k => mM1 U w (U 31 (4 * s + k)) (U 32 (4 * s + k))) (U 30 s).toNat 0 := rfl
          rw [e]
          simp only [List.count_append, if_true, Bool.false_eq_true, if_false, List.count_nil] at *
          omega
        · rw [if_neg h9, decide_eq_false h9]
          by_cases h10 : U 20 s = 10
          · rw [if_pos h10]
            unfold mPs mJ0
            rw [if_neg h2, if_neg h3, if_neg h9, if_pos h10, if_neg h1, if_neg h9, if_pos h10]
            simp
          · rw [if_neg h10]
            unfold mPs mJ0
            rw [if_neg h2, if_neg h3, if_neg h9, if_neg h10, if_neg h1, if_neg h9, if_neg h10]
            simp
theorem mMeth_p (m : Int) : (mMeth U w c m).Perm ((mPm U w m ++ mL4 U w m) ++ mJM U w c m) := by
  unfold mMeth mPm mL4 mJM mM1
  have p1 := tCat_cg2 (F := mTold U w (w * 12 + m) (mOver U w (w * 12 + m))) (f := fun i => if kO U w (U 16 (4 * (w * 12 + m) + i)) (U 17 (4 * (w * 12 + m) + i)) = -1 then [((1 : Int), (U 17 (4 * (w * 12 + m) + i), (-1 : Int)))] else []) (f' := mTj U w (w * 12 + m) (mOver U w (w * 12 + m))) (fun k => by
    unfold mTold mTj
    by_cases z : kO U w (U 16 (4 * (w * 12 + m) + k)) (U 17 (4 * (w * 12 + m) + k)) = -1
    · rw [if_pos z, if_pos z, if_pos z]; exact List.Perm.refl _
    · rw [if_neg z, if_neg z, if_neg z]; exact List.Perm.refl _) (U 15 (w * 12 + m)).toNat 0
  have e : (if U 12 (w * 12 + m) ≠ 0 ∧ mOver U w (w * 12 + m) = -1 then [((1 : Int), (U 13 (w * 12 + m), (-1 : Int)))] else []) = (if U 12 (w * 12 + m) = 0 then [] else if mO U w (U 12 (w * 12 + m)) = -1 then [((1 : Int), (U 13 (w * 12 + m), (-1 : Int)))] else []) := by
    unfold mOver
    by_cases z : U 12 (w * 12 + m) = 0
    · rw [if_pos z, if_neg (fun y => y.1 z), if_pos z]
    · rw [if_neg z, if_neg z]
      by_cases y : mO U w (U 12 (w * 12 + m)) = -1
      · rw [if_pos y, if_pos ⟨z, y⟩]
      · rw [if_neg y, if_neg (fun t => y t.2)]
  rw [e]
  rw [List.perm_iff_count] at p1 ⊢
  intro x
  have := p1 x
  simp only [List.count_append] at *
  omega
theorem mAll_p : (mAll U w c l).Perm ((mPar U w ++ mLk U w) ++ (tCat (mJM U w c) (U 9 w).toNat 0 ++ (allS U w).flatMap (mJs U w c l))) := by
  unfold mAll mPar mLk
  rw [stL_f, stL_f, stL_f, tCat_fm, tCat_fm]
  have p1 := fm_add (F := mStm U w c l) (allS U w) (fun s _ => mStm_p s)
  have p2 := fm_add (F := fun s => ((mPs U w s ++ (if decide (U 20 s = 1) = true then mL1 U w s else [])) ++ (if decide (U 20 s = 9) = true then mL2 U w s else [])) ++ (if isO U s = true then mL3 U w s else [])) (allS U w) (fun s _ => List.Perm.refl _)
  have p3 := fm_add (F := fun s => (mPs U w s ++ (if decide (U 20 s = 1) = true then mL1 U w s else [])) ++ (if decide (U 20 s = 9) = true then mL2 U w s else [])) (allS U w) (fun s _ => List.Perm.refl _)
  have p4 := fm_add (F := fun s => mPs U w s ++ (if decide (U 20 s = 1) = true then mL1 U w s else [])) (allS U w) (fun s _ => List.Perm.refl _)
  have q1 := tCat_cg2 (F := mMeth U w c) (fun m => mMeth_p m) (U 9 w).toNat 0
  have q2 := tCat_cg2 (F := fun m => mPm U w m ++ mL4 U w m) (fun m => List.Perm.refl _) (U 9 w).toNat 0
  rw [List.perm_iff_count] at *
  intro x
  have a1 := p1 x
  have a2 := p2 x
  have a3 := p3 x
  have a4 := p4 x
  have b1 := q1 x
  have b2 := q2 x
  show List.count x (tCat (mKind U w) (U 3 w - 4).toNat 4 ++ (tCat (mMeth U w c) (U 9 w).toNat 0 ++ (allS U w).flatMap (mStm U w c l))) = List.count x ((tCat (mKind U w) (U 3 w - 4).toNat 4 ++ (tCat (mPm U w) (U 9 w).toNat 0 ++ (allS U w).flatMap (mPs U w)) ++ _) ++ _)
  simp only [List.count_append] at *
  omega
end ACC
