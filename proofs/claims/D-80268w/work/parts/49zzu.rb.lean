/-! JDK: maps, 14: the bins of a table are moved to the longer one *-/
section RBL
variable {h h2 g g' : am_H} {v : vT} {r m t1 t2 n : Nat} {NS : List Nat} {Q : am_O → am_H → Prop} {l0 l3 l5 : Option am_V}
theorem lastO_mem : ∀ (l : List Nat) (z : Nat), ∃ w, lastO (z :: l) = some w ∧ w ∈ z :: l := by
  intro l
  induction l with
  | nil => intro z; exact ⟨z, rfl, List.mem_cons_self ..⟩
  | cons y l ih =>
    intro z
    obtain ⟨w, w1, w2⟩ := ih y
    exact ⟨w, w1, List.mem_cons_of_mem _ w2⟩
theorem rs_bins (hn : n = 16 ∨ n = 32) (kt1 : hK h2 t1 = 48) (lt1 : hL h2 t1 = n) (kt2 : hK h2 t2 = 48) (lt2 : hL h2 t2 = 2 * n) (tt : t1 ≠ t2) (k12 : ∀ x, x ∈ NS → hK h2 x = 12) (OB : ∀ i, i < n → isLB h2 n (hR h2 t1 i) NS i)
    (K : ∀ g l7 l8 l9 l10 l11 l12 l13, RI h2 t1 t2 n NS n g → Rn r 206 353 [l0, some (vR (some t1)), some (vI (iI n)), l3, some (vI (iI ((2 * n : Nat) : Int))), l5, some (vR (some t2)), l7, l8, l9, l10, l11, l12, l13] [] g Q) :
    ∀ (d j : Nat) (g : am_H), j + d = n → RI h2 t1 t2 n NS j g → ∀ l8 l9 l10 l11 l12 l13, Rn r 206 151 [l0, some (vR (some t1)), some (vI (iI n)), l3, some (vI (iI ((2 * n : Nat) : Int))), l5, some (vR (some t2)), some (vI (iI j)), l8, l9, l10, l11, l12, l13] [] g Q := by
  have nt1 : t1 ∉ NS := fun w => by have := k12 t1 w; omega
  have nt2 : t2 ∉ NS := fun w => by have := k12 t2 w; omega
  have n64 : 16 ≤ n ∧ n ≤ 32 := by rcases hn with z | z <;> omega
  intro d
  induction d with
  | zero =>
    intro j g hj R l8 l9 l10 l11 l12 l13
    have e : j = n := by omega
    subst e
    rw [sJ7_resize_151, sJ7_resize_153, sJ7_resize_154, if_pos (by rw [iI_le (by omega) (by omega) (by omega) (by omega)]; omega)]
    exact K g _ _ _ _ _ _ _ R
  | succ d ih =>
    intro j g hj R l8 l9 l10 l11 l12 l13
    have jn : j < n := by omega
    have R' := R
    obtain ⟨r1, r2, r3, r4, r5, r6, r7, r8⟩ := R
    have kg : ∀ y, hK g y = hK h2 y := fun y => by unfold hK; rw [r1, r2]
    have lg : ∀ y, hL g y = hL h2 y := fun y => by unfold hL; rw [r2]
    have next : ∀ (g' : am_H) (l8 l9 l10 l11 l12 l13 : Option am_V), RI h2 t1 t2 n NS (j + 1) g' → Rn r 206 347 [l0, some (vR (some t1)), some (vI (iI n)), l3, some (vI (iI ((2 * n : Nat) : Int))), l5, some (vR (some t2)), some (vI (iI j)), l8, l9, l10, l11, l12, l13] [] g' Q := by
      intro g' l8 l9 l10 l11 l12 l13 R2
      rw [sJ7_resize_347, c_i1, sJ7_resize_350]
      exact ih (j + 1) g' (by omega) R2 _ _ _ _ _ _
    obtain ⟨xs, ch, nd, x12, mem⟩ := OB j jn
    have ch' : chn g (hR h2 t1 j) xs := chn_l (fun x hx => r6 x ((mem x).mp hx).1 (by rw [((mem x).mp hx).2]; exact Nat.le_refl _)) ch
    have b1 : ∀ x, x ∈ NS → (bIx (2 * n) (hI g x 0) = j → bIx n (hI h2 x 0) = j) ∧ (bIx (2 * n) (hI g x 0) = j + n → bIx n (hI h2 x 0) = j) := fun x hx => by
      rw [r3]
      have := bIx_half hn (hI h2 x 0)
      constructor <;> intro _ <;> omega
    have e20 : hR g t2 j = none := (r8 j (by omega)).2 (by rw [Nat.mod_eq_of_lt jn]; exact Nat.le_refl _)
    have e21 : hR g t2 (j + n) = none := (r8 (j + n) (by omega)).2 (by rw [Nat.add_mod_right, Nat.mod_eq_of_lt jn]; exact Nat.le_refl _)
    rw [sJ7_resize_151, sJ7_resize_153, sJ7_resize_154, if_neg (by rw [iI_le (by omega) (by omega) (by omega) (by omega)]; omega), sJ7_resize_157, sJ7_resize_158, sJ7_resize_160 (by rw [kg, kt1]; decide) (by rw [kg, kt1]; decide) (by rw [lg, lt1]; exact bd_i jn (by omega)), nn_i (by omega), r7 j (Nat.le_refl _), sJ7_resize_161, sJ7_resize_162, sJ7_resize_164]
    cases xs with
    | nil =>
      have e0 : hR h2 t1 j = none := ch
      rw [e0, if_pos rfl]
      have no : ∀ x, x ∈ NS → bIx n (hI h2 x 0) ≠ j := fun x hx e => by
        have := (mem x).mpr ⟨hx, e⟩
        cases this
      refine next g _ _ _ _ _ _ (RI_step hn jn tt nt1 nt2 R' rfl rfl (fun _ _ => rfl) (fun _ _ => rfl) (fun _ _ _ _ _ => rfl) ?_ ?_)
      · refine ⟨[], e20, List.nodup_nil, fun x hx => (by cases hx), fun x => ⟨fun w => (by cases w), fun w => absurd ((b1 x w.1).1 w.2) (no x w.1)⟩⟩
      · refine ⟨[], e21, List.nodup_nil, fun x hx => (by cases hx), fun x => ⟨fun w => (by cases w), fun w => absurd ((b1 x w.1).2 w.2) (no x w.1)⟩⟩
    | cons x l =>
      have e0 : hR h2 t1 j = some x := ch.1
      have xm := (mem x).mp (List.mem_cons_self ..)
      have kx : hK g x = 12 := by rw [kg]; exact k12 x xm.1
      have xt1 : x ≠ t1 := fun w => nt1 (by rw [← w]; exact xm.1)
      have xt2 : x ≠ t2 := fun w => nt2 (by rw [← w]; exact xm.1)
      rw [e0, if_neg (by simp), sJ7_resize_167, sJ7_resize_168, sJ7_resize_170, sJ7_resize_171_n (by rw [kg, kt1]; decide) (by rw [lg, lt1]; exact bd_i jn (by omega)), nn_i (by omega), sJ7_resize_172, sJ7_resize_174 (by rw [hK_putR]; omega) (by rw [hK_putR]; omega), hR_putR, if_neg (am_ne xt1), sJ7_resize_177]
      cases l with
      | nil =>
        have nx : hR g x 3 = none := ch'.2
        have bb := bIx_half hn (hI h2 x 0)
        rw [xm.2] at bb
        have hi2 : hI g x 0 &&& (iI ((2 * n : Nat) : Int) - 1) = iI (bIx (2 * n) (hI h2 x 0)) := by
          have c2 : iI ((2 * n : Nat) : Int) - (1 : Int32) = iI ((2 * n : Nat) - 1) := by rw [i_1, iI_sub]
          rw [r3, Int32.and_comm, c2]
          exact (bIx_lt (2 * n) (by omega) _).2
        have bl := (bIx_lt (2 * n) (by omega) (hI h2 x 0)).1
        rw [nx, if_neg (fun w => w rfl), sJ7_resize_180, sJ7_resize_182, sJ7_resize_184 (by rw [hK_putR]; omega) (by rw [hK_putR]; omega), hI_putR, sJ7_resize_187, sJ7_resize_189, sJ7_resize_190, sJ7_resize_191, hi2, sJ7_resize_192, sJ7_resize_194 (by rw [hK_putR, hK_putR, kg, kt2, kx]; exact Or.inr ⟨rfl, by decide, by decide⟩) (by rw [hL_putR, lg, lt2]; exact bd_i bl (by omega)), nn_i (by omega), sJ7_resize_195]
        have c5 : ∀ b k, ¬ (b = t1 ∧ k = j) → ¬ (b = t2 ∧ (k = j ∨ k = j + n)) → ¬ (b ∈ NS ∧ bIx n (hI h2 b 0) = j ∧ k = 3) → hR (putR (putR g t1 j none) t2 (bIx (2 * n) (hI h2 x 0)) (some x)) b k = hR g b k := fun b k q1 q2 _ => by
          rw [hR_putR, if_neg (fun w => q2 ⟨w.1, by omega⟩), hR_putR, if_neg q1]
        have only : ∀ y, y ∈ NS → bIx n (hI h2 y 0) = j → y = x := fun y hy e => by
          have := (mem y).mpr ⟨hy, e⟩
          exact List.mem_singleton.mp this
        have lb : ∀ i, (i = j ∨ i = j + n) → isLB (putR (putR g t1 j none) t2 (bIx (2 * n) (hI h2 x 0)) (some x)) (2 * n) (hR (putR (putR g t1 j none) t2 (bIx (2 * n) (hI h2 x 0)) (some x)) t2 i) NS i := by
          intro i hi
          by_cases e : i = bIx (2 * n) (hI h2 x 0)
          · have rd : hR (putR (putR g t1 j none) t2 (bIx (2 * n) (hI h2 x 0)) (some x)) t2 i = some x := by rw [hR_putR, if_pos ⟨rfl, e⟩]
            rw [rd]
            refine ⟨[x], ⟨rfl, ?_⟩, by simp, fun y hy => by rw [List.mem_singleton.mp hy]; exact kx, fun y => ?_⟩
            · rw [hR_putR, if_neg (am_ne xt2), hR_putR, if_neg (am_ne xt1)]
              exact nx
            · show y ∈ [x] ↔ (y ∈ NS ∧ bIx (2 * n) (hI g y 0) = i)
              constructor
              · intro w
                rw [List.mem_singleton.mp w, r3]
                exact ⟨xm.1, e.symm⟩
              · rintro ⟨w1, w2⟩
                refine List.mem_singleton.mpr (only y w1 ?_)
                rcases hi with hi | hi
                · exact (b1 y w1).1 (w2.trans hi)
                · exact (b1 y w1).2 (w2.trans hi)
          · have rd : hR (putR (putR g t1 j none) t2 (bIx (2 * n) (hI h2 x 0)) (some x)) t2 i = hR g t2 i := by rw [hR_putR, if_neg (fun w => e w.2), hR_putR, if_neg (fun w => tt w.1.symm)]
            rw [rd]
            have e2 : hR g t2 i = none := by rcases hi with hi | hi <;> rw [hi]; exact e20; exact e21
            refine ⟨[], e2, List.nodup_nil, fun y hy => (by cases hy), fun y => ?_⟩
            show y ∈ [] ↔ (y ∈ NS ∧ bIx (2 * n) (hI g y 0) = i)
            constructor
            · intro w; cases w
            · rintro ⟨w1, w2⟩
              exfalso
              have yx : y = x := by
                refine only y w1 ?_
                rcases hi with hi | hi
                · exact (b1 y w1).1 (w2.trans hi)
                · exact (b1 y w1).2 (w2.trans hi)
              rw [yx, r3] at w2
              exact e w2.symm
        exact next _ _ _ _ _ _ _ (RI_step hn jn tt nt1 nt2 R' rfl rfl (fun _ _ => rfl) (fun _ _ => rfl) c5 (lb j (Or.inl rfl)) (lb (j + n) (Or.inr rfl)))
      | cons x2 l =>
        have nx : hR g x 3 = some x2 := ch'.2.1
        have xin : ∀ y, y ∈ x :: x2 :: l → y ≠ t1 ∧ y ≠ t2 := fun y hy => by
          have := (mem y).mp hy
          exact ⟨fun w => nt1 (by rw [← w]; exact this.1), fun w => nt2 (by rw [← w]; exact this.1)⟩
        rw [nx, if_pos (by simp), sJ7_resize_198, sJ7_resize_200_f (by rw [hK_putR, kx]; decide) (by rw [hK_putR, kx]; decide), sJ7_resize_203, if_pos rfl, sJ7_resize_223, sJ7_resize_224, sJ7_resize_226, sJ7_resize_227, sJ7_resize_229, sJ7_resize_230, sJ7_resize_232, sJ7_resize_233]
        refine rs_split (g := putR g t1 j none) (n := n) (j := j) (fun y => y ∈ x :: x2 :: l) (fun g1 RA RB l13 a1 a2 a3 a4 a5 pa pb na nbb ma mb => ?_) (x2 :: l) x (putR g t1 j none) [] [] _ rfl rfl (fun _ _ => rfl) (fun _ _ => rfl) (fun _ _ _ => rfl) trivial trivial (chn_l (h := g) (fun y hy => by rw [hR_putR, if_neg (am_ne (xin y hy).1)]) (by rw [e0] at ch'; exact ch')) (by simpa using nd) (fun y hy => ⟨hy, by rw [hK_putR, kg]; exact k12 y ((mem y).mp hy).1⟩) (fun y hy => by cases hy) (fun y hy => by cases hy) (fun y hy => Or.inl hy)
        have k1 : ∀ y, hK g1 y = hK h2 y := fun y => by
          have : hK g1 y = hK (putR g t1 j none) y := by unfold hK; rw [a1, a2]
          rw [this, hK_putR, kg]
        have l1 : ∀ y, hL g1 y = hL h2 y := fun y => by
          have : hL g1 y = hL (putR g t1 j none) y := by unfold hL; rw [a2]
          rw [this, hL_putR, lg]
        have i1 : ∀ b k, hI g1 b k = hI h2 b k := fun b k => by rw [a3, hI_putR, r3]
        have rA : ∀ y, y ∈ RA → y ∈ NS ∧ y ≠ t1 ∧ y ≠ t2 ∧ bIx (2 * n) (hI h2 y 0) = j := fun y hy => by
          have w := (ma y).mp hy
          have w1 := (mem y).mp w.1
          have w2 := w.2
          rw [hI_putR, r3] at w2
          refine ⟨w1.1, (xin y w.1).1, (xin y w.1).2, ?_⟩
          rw [(bIx_dbl hn _).1 w2, w1.2]
        have rB : ∀ y, y ∈ RB → y ∈ NS ∧ y ≠ t1 ∧ y ≠ t2 ∧ bIx (2 * n) (hI h2 y 0) = j + n := fun y hy => by
          have w := (mb y).mp hy
          have w1 := (mem y).mp w.1
          have w2 := w.2
          rw [hI_putR, r3] at w2
          refine ⟨w1.1, (xin y w.1).1, (xin y w.1).2, ?_⟩
          rw [(bIx_dbl hn _).2 w2, w1.2]
        have inA : ∀ y, y ∈ NS → bIx (2 * n) (hI h2 y 0) = j → y ∈ RA := fun y hy e => by
          have hj' : bIx n (hI h2 y 0) = j := (b1 y hy).1 (by rw [r3]; exact e)
          refine (ma y).mpr ⟨(mem y).mpr ⟨hy, hj'⟩, ?_⟩
          rw [hI_putR, r3]
          refine Classical.byContradiction fun q => ?_
          have := (bIx_dbl hn (hI h2 y 0)).2 q
          omega
        have inB : ∀ y, y ∈ NS → bIx (2 * n) (hI h2 y 0) = j + n → y ∈ RB := fun y hy e => by
          have hj' : bIx n (hI h2 y 0) = j := (b1 y hy).2 (by rw [r3]; exact e)
          refine (mb y).mpr ⟨(mem y).mpr ⟨hy, hj'⟩, ?_⟩
          rw [hI_putR, r3]
          intro q
          have := (bIx_dbl hn (hI h2 y 0)).1 q
          omega
        have sep : ∀ y, y ∈ RA → y ∉ RB := fun y ha hb => by
          have := (rA y ha).2.2.2
          have := (rB y hb).2.2.2
          omega
        have g1t2 : ∀ i, hR g1 t2 i = hR g t2 i := fun i => by
          rw [a5 t2 i (fun w => (xin t2 w.1).2 rfl), hR_putR, if_neg (fun w => tt w.1.symm)]
        -- the end: two bins are written
        have fin : ∀ (g2 : am_H) (l8 l9 l10 l11 l12 l13 : Option am_V), g2.1 = g1.1 → g2.2.1 = g1.2.1 → (∀ b k, hI g2 b k = hI g1 b k) → (∀ b k, hJ g2 b k = hJ g1 b k) → (∀ b k, ¬ (b = t2 ∧ (k = j ∨ k = j + n)) → ¬ ((b ∈ RA ∨ b ∈ RB) ∧ k = 3) → hR g2 b k = hR g1 b k) → chn g2 (hR g2 t2 j) RA.reverse → chn g2 (hR g2 t2 (j + n)) RB.reverse →
            Rn r 206 347 [l0, some (vR (some t1)), some (vI (iI n)), l3, some (vI (iI ((2 * n : Nat) : Int))), l5, some (vR (some t2)), some (vI (iI j)), l8, l9, l10, l11, l12, l13] [] g2 Q := by
          intro g2 l8 l9 l10 l11 l12 l13 q1 q2 q3 q4 q5 cA cB
          refine next g2 _ _ _ _ _ _ (RI_step hn jn tt nt1 nt2 R' (q1.trans a1) (q2.trans a2) (fun b k => by rw [q3, a3, hI_putR]) (fun b k => by rw [q4, a4, hJ_putR]) (fun b k w1 w2 w3 => ?_) ?_ ?_)
          · have nb : ¬ (b ∈ x :: x2 :: l ∧ k = 3) := fun w => w3 ⟨((mem b).mp w.1).1, ((mem b).mp w.1).2, w.2⟩
            rw [q5 b k w2 (fun w => ?_), a5 b k nb, hR_putR, if_neg w1]
            rcases w.1 with w' | w'
            · exact nb ⟨((ma b).mp w').1, w.2⟩
            · exact nb ⟨((mb b).mp w').1, w.2⟩
          · refine ⟨RA.reverse, cA, ((List.reverse_perm RA).nodup_iff).mpr na, fun y hy => ?_, fun y => ?_⟩
            · rw [show hK g2 y = hK g1 y by unfold hK; rw [q1, q2], k1]
              exact k12 y (rA y (List.mem_reverse.mp hy)).1
            · rw [List.mem_reverse, q3, i1]
              exact ⟨fun w => ⟨(rA y w).1, (rA y w).2.2.2⟩, fun w => inA y w.1 w.2⟩
          · refine ⟨RB.reverse, cB, ((List.reverse_perm RB).nodup_iff).mpr nbb, fun y hy => ?_, fun y => ?_⟩
            · rw [show hK g2 y = hK g1 y by unfold hK; rw [q1, q2], k1]
              exact k12 y (rB y (List.mem_reverse.mp hy)).1
            · rw [List.mem_reverse, q3, i1]
              exact ⟨fun w => ⟨(rB y w).1, (rB y w).2.2.2⟩, fun w => inB y w.1 w.2⟩
        -- the upper bin
        have hiB : ∀ (g2 : am_H) (l8 l9 l10 l13 : Option am_V), g2.1 = g1.1 → g2.2.1 = g1.2.1 → (∀ b k, hI g2 b k = hI g1 b k) → (∀ b k, hJ g2 b k = hJ g1 b k) → (∀ b k, ¬ (b = t2 ∧ k = j) → ¬ (b ∈ RA ∧ k = 3) → hR g2 b k = hR g1 b k) → chn g2 (hR g2 t2 j) RA.reverse →
            Rn r 206 327 [l0, some (vR (some t1)), some (vI (iI n)), l3, some (vI (iI ((2 * n : Nat) : Int))), l5, some (vR (some t2)), some (vI (iI j)), l8, l9, l10, some (vR (lastO RB)), some (vR RB.head?), l13] [] g2 Q := by
          intro g2 l8 l9 l10 l13 q1 q2 q3 q4 q5 cA
          rw [sJ7_resize_327, sJ7_resize_329]
          have up : hR g2 t2 (j + n) = none := by
            rw [q5 t2 (j + n) (fun w => by omega) (fun w => (rA t2 w.1).2.2.1 rfl), g1t2]
            exact e21
          cases RB with
          | nil =>
            rw [List.head?_nil, if_pos rfl]
            exact fin g2 _ _ _ _ _ _ q1 q2 q3 q4 (fun b k w1 w2 => q5 b k (fun w => w1 ⟨w.1, Or.inl w.2⟩) (fun w => w2 ⟨Or.inl w.1, w.2⟩)) cA up
          | cons z l2 =>
            obtain ⟨w, lw, wm⟩ := lastO_mem l2 z
            have kz : hK g2 z = 12 := by
              rw [show hK g2 z = hK g1 z by unfold hK; rw [q1, q2], k1]
              exact k12 z (rB z (List.mem_cons_self ..)).1
            have kw : hK g2 w = 12 := by
              rw [show hK g2 w = hK g1 w by unfold hK; rw [q1, q2], k1]
              exact k12 w (rB w wm).1
            have zt := (rB z (List.mem_cons_self ..)).2.2.1
            have kt : hK g2 t2 = 48 := by
              rw [show hK g2 t2 = hK g1 t2 by unfold hK; rw [q1, q2], k1]
              exact kt2
            have ltl : hL g2 t2 = 2 * n := by
              rw [show hL g2 t2 = hL g1 t2 by unfold hL; rw [q2], l1]
              exact lt2
            have ad : iI j + iI n = iI ((j + n : Nat) : Int) := by rw [iI_add]; rfl
            rw [List.head?_cons, if_neg (by simp), sJ7_resize_332, sJ7_resize_334, sJ7_resize_335 (by omega) (by omega), sJ7_resize_338, sJ7_resize_340, sJ7_resize_342, sJ7_resize_343, ad, sJ7_resize_344, lw, sJ7_resize_346 (by rw [hK_putR, hK_putR, kt, kw]; exact Or.inr ⟨rfl, by decide, by decide⟩) (by rw [hL_putR, ltl]; exact bd_i (by omega) (by omega)), nn_i (by omega)]
            have sz : ∀ y, y ∈ RA → y ≠ z := fun y hy e => sep y hy (by rw [e]; exact List.mem_cons_self ..)
            refine fin _ _ _ _ _ _ _ q1 q2 q3 q4 (fun b k w1 w2 => ?_) ?_ ?_
            · rw [hR_putR, if_neg (fun e => w1 ⟨e.1, Or.inr e.2⟩), hR_putR, if_neg (fun e => w2 ⟨Or.inr (by rw [e.1]; exact List.mem_cons_self ..), e.2⟩)]
              exact q5 b k (fun w => w1 ⟨w.1, Or.inl w.2⟩) (fun w => w2 ⟨Or.inl w.1, w.2⟩)
            · rw [hR_putR, if_neg (fun e => by have := e.2; omega), hR_putR, if_neg (am_ne (Ne.symm zt))]
              refine chn_l (fun y hy => ?_) cA
              have hy' := List.mem_reverse.mp hy
              rw [hR_putR, if_neg (am_ne (rA y hy').2.2.1), hR_putR, if_neg (am_ne (sz y hy'))]
            · rw [hR_putR, if_pos ⟨rfl, rfl⟩]
              have := rpch_chn (g := putR (putR g2 z 3 none) t2 (j + n) (some w)) l2 z [] (rpch_l (fun y hy => ?_) pb) (by rw [hR_putR, if_neg (am_ne zt), hR_putR, if_pos ⟨rfl, rfl⟩]; rfl)
              · rw [List.append_nil, lw] at this
                exact this
              · have hy' : y ∈ z :: l2 := List.mem_cons_of_mem _ hy
                have yz : y ≠ z := fun e => (List.nodup_cons.mp nbb).1 (by rw [← e]; exact hy)
                rw [hR_putR, if_neg (am_ne (rB y hy').2.2.1), hR_putR, if_neg (am_ne yz)]
                exact q5 y 3 (fun e => (rB y hy').2.2.1 e.1) (fun e => sep y e.1 hy')
        rw [sJ7_resize_309, sJ7_resize_311]
        cases RA with
        | nil =>
          rw [List.head?_nil, if_pos rfl]
          exact hiB g1 _ _ _ _ rfl rfl (fun _ _ => rfl) (fun _ _ => rfl) (fun _ _ _ _ => rfl) (by rw [g1t2]; exact e20)
        | cons z l2 =>
          obtain ⟨w, lw, wm⟩ := lastO_mem l2 z
          have kz : hK g1 z = 12 := by rw [k1]; exact k12 z (rA z (List.mem_cons_self ..)).1
          have kw : hK g1 w = 12 := by rw [k1]; exact k12 w (rA w wm).1
          have zt := (rA z (List.mem_cons_self ..)).2.2.1
          rw [List.head?_cons, if_neg (by simp), sJ7_resize_314, sJ7_resize_316, sJ7_resize_317 (by omega) (by omega), sJ7_resize_320, sJ7_resize_322, sJ7_resize_324, lw, sJ7_resize_326 (by rw [hK_putR, hK_putR, k1, kt2, kw]; exact Or.inr ⟨rfl, by decide, by decide⟩) (by rw [hL_putR, l1, lt2]; exact bd_i (by omega) (by omega)), nn_i (by omega)]
          refine hiB _ _ _ _ _ rfl rfl (fun _ _ => rfl) (fun _ _ => rfl) (fun b k w1 w2 => ?_) ?_
          · rw [hR_putR, if_neg w1, hR_putR, if_neg (fun e => w2 ⟨by rw [e.1]; exact List.mem_cons_self .., e.2⟩)]
          · rw [hR_putR, if_pos ⟨rfl, rfl⟩]
            have := rpch_chn (g := putR (putR g1 z 3 none) t2 j (some w)) l2 z [] (rpch_l (fun y hy => ?_) pa) (by rw [hR_putR, if_neg (am_ne zt), hR_putR, if_pos ⟨rfl, rfl⟩]; rfl)
            · rw [List.append_nil, lw] at this
              exact this
            · have hy' : y ∈ z :: l2 := List.mem_cons_of_mem _ hy
              have yz : y ≠ z := fun e => (List.nodup_cons.mp na).1 (by rw [← e]; exact hy)
              rw [hR_putR, if_neg (am_ne (rA y hy').2.2.1), hR_putR, if_neg (am_ne yz)]
end RBL
