/-! COMPONENT, 143: find (21) *-/
section AXP
variable {x rd tp wr wk r : Nat} {C R : Nat → Nat} {A : Nat → Int → Nat} {T : Nat → Nat} {p0 w : Int} {g : Int → Int} {v : vT} {h : am_H} {S U : tSt} {Q : am_O → am_H → Prop} {l1 l2 l3 l4 l5 : Option am_V}
/-- what was found: kind K, method M (-1: none) -/
theorem fi_e {K M : Int} (c : CR h v) (gx : GX R A T w p0 v U) (hK5 : K = -1 ∨ (0 ≤ K ∧ K < U 3 w)) (hM : M = -1 ∨ (0 ≤ M ∧ M < U 9 w)) (b : U 3 w ≤ 16 ∧ U 9 w ≤ 12) (q : Q (Sum.inl (some (vI (iI (if K ≠ -1 then 100 + K else if M ≠ -1 then 200 + M else -1))))) h) : Rn r 21 112 [some (vR (some x)), l1, l2, l3, some (vR (optA (A 0) K)), some (vR (optA (A 1) M))] [] h Q := by
  rw [sX0_find_112, sX0_find_114]
  by_cases k : K = -1
  · rw [if_neg (fun y => y k)] at q
    rw [k, optA_n, if_pos rfl, sX0_find_128, sX0_find_130]
    by_cases m : M = -1
    · rw [if_neg (fun y => y m)] at q
      rw [m, optA_n, if_pos rfl, sX0_find_145, sX0_find_146]
      exact q
    · rw [if_pos m] at q
      obtain ⟨km, im, _⟩ := gx.2.2.1.2.2.2 M (by omega) (by omega)
      rw [optA_s m, if_neg (by simp), sX0_find_133, sX0_find_136, sX0_find_138 (c.kk km (by decide)), c.ii km rfl, im, sX0_find_141, show (200 : Int32) = iI 200 from rfl, iI_add, sX0_find_142, sX0_find_146]
      exact q
  · rw [if_pos k] at q
    obtain ⟨a1, a2, _⟩ := gx.1.1.2.2.2.2 K (by omega) (by omega)
    rw [optA_s k, if_neg (by simp), sX0_find_117, sX0_find_119, sX0_find_121 (c.kk a1 (by decide)), c.ii a1 rfl, a2, sX0_find_124, show (100 : Int32) = iI 100 from rfl, iI_add, sX0_find_125, sX0_find_146]
    exact q
theorem ax_find (c : CR h v) (ax : AX v x rd tp wr wk C R A T p0 g w S U) (nk : ∀ y, tKw y = true → kO U w y 2001 = -1 ∧ mO U w y = -1) (q : ∀ h' v', CR h' v' → AX v' x rd tp wr wk C R A T p0 g w (up S 1 0 0) U → hN v'.1 ≤ hN v.1 + 40 → hS v.1 ≤ hS v'.1 → hS v'.1 ≤ hS v.1 + 800 → KT v v' → Q (Sum.inl (some (vI (iI (tFnd U w (if 0 < S 1 0 ∧ S 1 0 ≤ 8 then tFw S (S 1 0).toNat 0 0 else none)))))) h') : Cl (r + 1) 21 [vR (some x)] h Q := by
  have kx := ax.1.1
  have i1 := ax.1.2.2.1
  have kxh := c.kk kx (by decide)
  have sl := ax.2.2.2.2.2.2.2
  have jp := ax.2.2.2.2.1
  have qw := jp.2.1.2.2.1
  have ax1 := AX_t (t := 0) ax ⟨by decide, by decide⟩
  have c1 := CR_pI (k := 1) (x := iI 0) c kx rfl
  have n1 : hN (vpI v x 1 (iI 0)).1 = hN v.1 := rfl
  have s1 : hS (vpI v x 1 (iI 0)).1 = hS v.1 := rfl
  have t1 : KT v (vpI v x 1 (iI 0)) := KT_pI kx (by decide)
  rw [eX0_find, sX0_find_0, sX0_find_1 kxh, c.ii kx rfl, i1, sX0_find_4, sX0_find_5, sX0_find_6, sX0_find_7 kxh, show (0 : Int32) = iI 0 from rfl]
  generalize vpI v x 1 (iI 0) = v1 at *
  generalize putI h x 1 (iI 0) = h1 at *
  have nn := c1.hn
  have kx1 := ax1.1.1
  have y1 := ax1.2.2.1.2.1
  rw [up_n (by decide)] at y1
  rw [sX0_find_10, sX0_find_13, sX0_find_14, sX0_find_16 (by rw [nw_h]; decide) (by rw [nw_h]; decide), show (8 : Int32) = iI ((8 : Nat) : Int) from rfl]
  refine v_nSb c1 (by decide) (fun h2 c2 => ?_)
  rw [Kt_0, sX0_find_19, sX0_find_20, sX0_find_21, nn]
  have f2 : Fw (fun _ _ => False) v1 (vsT (vbm (vnw v1 16 4) (hN v1.1 + 2) (hS v1.1 + 4 + 8)) (hN v1.1) []) := (Fw.refl.nw.bm (by show hN v1.1 + 1 ≤ _; omega)).sT (Or.inl (Nat.le_refl _))
  have e0 : ∃ d : Nat, ((0 + d : Nat) : Int) = (if S 1 0 ≤ 9 then S 1 0 else 9) := by
    have := sl.2.1
    refine ⟨(if S 1 0 ≤ 9 then S 1 0 else 9).toNat, ?_⟩
    split <;> omega
  obtain ⟨d, hd⟩ := e0
  refine fi_l (S := S) (v0 := v1) (sb := hN v1.1) sl.1 sl.2.1 kx1 ax1.1.2.1 y1.1 y1.2.1 y1.2.2 (Nat.le_refl _) (fun h3 v3 m l3 c3 f3 k3 t3 hm n3 s3 z3 => ?_) d 0 h2 _ hd c2 f2 ?_ (if_pos rfl) ?_ ?_ ?_
  · rw [sX0_find_55, sX0_find_56 (c3.kk k3 (by decide))]
    have m9 : m ≤ 9 := by split at hm <;> omega
    refine v_toS c3 k3 (by rw [t3, bT_l]; omega) (fun h4 c4 => ?_)
    have f4 : Fw (fun _ _ => False) v1 (vsT (vbm (vnw v3 10 4) (hN v3.1 + 2) (hS v3.1 + 4 + (vTx v3 (hN v1.1)).length)) (hN v3.1) (vTx v3 (hN v1.1))) := (((f3.nw).bm (by show hN v3.1 + 1 ≤ _; omega))).sT (Or.inl f3.1)
    have n4 : hN (vsT (vbm (vnw v3 10 4) (hN v3.1 + 2) (hS v3.1 + 4 + (vTx v3 (hN v1.1)).length)) (hN v3.1) (vTx v3 (hN v1.1))).1 = hN v3.1 + 2 := rfl
    have s4 : hS (vsT (vbm (vnw v3 10 4) (hN v3.1 + 2) (hS v3.1 + 4 + (vTx v3 (hN v1.1)).length)) (hN v3.1) (vTx v3 (hN v1.1))).1 = hS v3.1 + 4 + m := by
      show hS v3.1 + 4 + (vTx v3 (hN v1.1)).length = _
      rw [t3, bT_l]
    have k4 : hK (vsT (vbm (vnw v3 10 4) (hN v3.1 + 2) (hS v3.1 + 4 + (vTx v3 (hN v1.1)).length)) (hN v3.1) (vTx v3 (hN v1.1))).1 (hN v3.1) = 10 := by
      rw [vsT_1, vbm_1, hK_bmp (by rw [vnw_1, hN_newC]; omega)]
      exact nw_k
    have x4 : vTx (vsT (vbm (vnw v3 10 4) (hN v3.1 + 2) (hS v3.1 + 4 + (vTx v3 (hN v1.1)).length)) (hN v3.1) (vTx v3 (hN v1.1))) (hN v3.1) = bT S m := by
      rw [← t3]; exact if_pos rfl
    generalize vsT (vbm (vnw v3 10 4) (hN v3.1 + 2) (hS v3.1 + 4 + (vTx v3 (hN v1.1)).length)) (hN v3.1) (vTx v3 (hN v1.1)) = v4 at *
    have ax4 := AX_fr (S' := up S 1 0 0) ax1 f4 (fun _ _ y _ => y.elim) (fun _ _ => rfl) ax1.2.2.2.2.2.2.2
    have gx4 := ax4.2.2.2.1.1
    have ku4 := gx4.1.1.1
    obtain ⟨⟨kx4, _, _, _, r34, _⟩, _⟩ := id ax4
    have kx4h := c4.kk kx4 (by decide)
    have fin := fun h' (c' : CR h' v4) => q h' v4 c' ax4 (by omega) (by omega) (by omega) (t1.tr (KT_fw f4 (fun _ _ y _ => y.elim)))
    have b3 := qw.1
    have b9 := qw.2.1
    have s10 := sl.2.1
    rw [Kt_v, sX0_find_59, sX0_find_60, sX0_find_61, sX0_find_63, show (8 : Int32) = iI 8 from rfl]
    by_cases z : S 1 0 ≤ 8
    · have em : (m : Int) = S 1 0 := by rw [if_pos (by omega)] at hm; exact hm
      have o8 : (bT S m).length ≤ 8 := by rw [bT_l]; omega
      have k5 := gx4.2.1
      have m7 := gx4.2.2.1.2.1
      have go : ∀ K M : Int, vMp v4 (R 5) (bT S m) = optA (A 0) K → vMp v4 (R 7) (bT S m) = optA (A 1) M → (K = -1 ∨ (0 ≤ K ∧ K < U 3 w)) → (M = -1 ∨ (0 ≤ M ∧ M < U 9 w)) → tFnd U w (if 0 < S 1 0 ∧ S 1 0 ≤ 8 then tFw S (S 1 0).toNat 0 0 else none) = (if K ≠ -1 then 100 + K else if M ≠ -1 then 200 + M else -1) → Rn (r + 1) 21 70 [some (vR (some x)), some (vI (iI (S 1 0))), some (vR (some (hN v1.1))), some (vR (some (hN v3.1))), none, none] [] h4 Q := fun K M e5 e7 hA hM et => by
        have km5 : hK v4.1 (R 5) = 6 := k5.2.1.2.2.1
        have km7 : hK v4.1 (R 7) = 6 := m7.2.1.1
        rw [sX0_find_70, sX0_find_71 kx4h, c4.rr kx4 rfl, r34, sX0_find_74 (c4.kk ku4 (by decide)), c4.rr ku4 rfl, k5.1, sX0_find_77, sX0_find_78 (c4.kk km5 (by decide))]
        refine v_mget c4 km5 (Or.inl k4) (by rw [x4]; exact o8) (fun h5 c5 => ?_)
        rw [x4, e5, Kt_v]
        have nx : Rn (r + 1) 21 84 [some (vR (some x)), some (vI (iI (S 1 0))), some (vR (some (hN v1.1))), some (vR (some (hN v3.1))), none, none] [vR (optA (A 0) K)] h5 Q := by
          rw [sX0_find_84, sX0_find_86, sX0_find_87, sX0_find_89, show (8 : Int32) = iI 8 from rfl, if_pos (by rw [iI_le (by omega) (by omega) (by omega) (by omega)]; exact z), sX0_find_96, sX0_find_97 (c5.kk kx4 (by decide)), c5.rr kx4 rfl, r34, sX0_find_100 (c5.kk ku4 (by decide)), c5.rr ku4 rfl, m7.1, sX0_find_103, sX0_find_104 (c5.kk km7 (by decide))]
          refine v_mget c5 km7 (Or.inl k4) (by rw [x4]; exact o8) (fun h6 c6 => ?_)
          rw [x4, e7, Kt_v]
          have fe := fin h6 c6
          rw [et] at fe
          have last : Rn (r + 1) 21 110 [some (vR (some x)), some (vI (iI (S 1 0))), some (vR (some (hN v1.1))), some (vR (some (hN v3.1))), some (vR (optA (A 0) K)), none] [vR (optA (A 1) M)] h6 Q := by
            rw [sX0_find_110]
            exact fi_e c6 gx4 hA hM ⟨b3.2, b9.2⟩ fe
          rcases hM with m0 | m0
          · rw [m0, optA_n] at last ⊢
            rw [sX0_find_107_n]
            exact last
          · have km := (gx4.2.2.1.2.2.2 M m0.1 m0.2).1
            have m1 : M ≠ -1 := by omega
            rw [optA_s (A := A 1) m1] at last ⊢
            rw [sX0_find_107 (by rw [c6.kk km (by decide)]; decide)]
            exact last
        rcases hA with a0 | a0
        · rw [a0, optA_n] at nx ⊢
          rw [sX0_find_81_n]
          exact nx
        · have ka := (gx4.1.1.2.2.2.2 K a0.1 a0.2).1
          have a1 : K ≠ -1 := by omega
          rw [optA_s (A := A 0) a1] at nx ⊢
          rw [sX0_find_81 (by rw [c5.kk ka (by decide)]; decide)]
          exact nx
      rw [if_pos (by rw [iI_le (by omega) (by omega) (by omega) (by omega)]; exact z)]
      have em' : (S 1 0).toNat = m := by omega
      rcases tFw_b sl.1 m 0 (fun y hy => by simp [bT] at hy) with ⟨t1, t2⟩ | ⟨t1, t2⟩
      · rw [Nat.zero_add] at t2
        have n5 : vMp v4 (R 5) (bT S m) = none := by
          obtain ⟨L, _, hL⟩ := k5.2.2.1
          cases e : vMp v4 (R 5) (bT S m) with
          | none => rfl
          | some a => exact (t2 (hL _ _ e).2.1.2).elim
        have n7 : vMp v4 (R 7) (bT S m) = none := by
          obtain ⟨L, _, hL⟩ := m7.2.2
          cases e : vMp v4 (R 7) (bT S m) with
          | none => rfl
          | some a => exact (t2 (hL _ _ e).2.1.2).elim
        refine go (-1) (-1) (by rw [n5, optA_n]) (by rw [n7, optA_n]) (Or.inl rfl) (Or.inl rfl) ?_
        have t1' : tFw S (S 1 0).toNat 0 0 = none := by rw [em']; exact t1
        rw [t1']
        split <;> rfl
      · rw [Nat.zero_add] at t1 t2
        have ok : okK (bT S m) := ⟨o8, t2⟩
        by_cases m0 : m = 0
        · have eb : bT S m = [] := by rw [m0]; rfl
          have n5 : vMp v4 (R 5) (bT S m) = none := by
            obtain ⟨L, _, hL⟩ := k5.2.2.1
            cases e : vMp v4 (R 5) (bT S m) with
            | none => rfl
            | some a => exact ((hL _ _ e).2.2 eb).elim
          have n7 : vMp v4 (R 7) (bT S m) = none := by
            obtain ⟨L, _, hL⟩ := m7.2.2
            cases e : vMp v4 (R 7) (bT S m) with
            | none => rfl
            | some a => exact ((hL _ _ e).2.2 eb).elim
          refine go (-1) (-1) (by rw [n5, optA_n]) (by rw [n7, optA_n]) (Or.inl rfl) (Or.inl rfl) ?_
          rw [if_neg (by omega)]
          rfl
        · have ne : bT S m ≠ [] := fun y => by
            have := congrArg List.length y
            rw [bT_l] at this
            exact m0 this
          have kb := kO_b (U := U) (w := w) (x := wN (bT S m)) (a := 2001) b3
          have mb := mO_b (U := U) (w := w) (x := wN (bT S m)) b9
          refine go (kO U w (wN (bT S m)) 2001) (mO U w (wN (bT S m))) (k5.2.1.1 _ ok ne 2001 k5.2.2.2) (m7.2.1.2 _ ok) (by omega) (by omega) ?_
          have t1' : tFw S (S 1 0).toNat 0 0 = some (wN (bT S m)) := by rw [em']; exact t1
          rw [if_pos (by omega), t1']
          show (if tKw (wN (bT S m)) = true then -1 else _) = _
          by_cases kw : tKw (wN (bT S m)) = true
          · obtain ⟨a, b⟩ := nk _ kw
            rw [if_pos kw, a, b]
            rfl
          · rw [if_neg kw]
    · rw [if_neg (by rw [iI_le (by omega) (by omega) (by omega) (by omega)]; exact z), sX0_find_66, sX0_find_67, sX0_find_84, sX0_find_86, sX0_find_87, sX0_find_89, show (8 : Int32) = iI 8 from rfl, if_neg (by rw [iI_le (by omega) (by omega) (by omega) (by omega)]; exact z), sX0_find_92, sX0_find_93, sX0_find_110]
      have := fin h4 c4
      rw [if_neg (by omega)] at this
      exact fi_e (A := A) (K := -1) (M := -1) c4 gx4 (Or.inl rfl) (Or.inl rfl) ⟨b3.2, b9.2⟩ this
  · rw [vsT_1, vbm_1, hK_bmp (by rw [vnw_1, hN_newC]; omega)]
    exact nw_k
  · show hN v1.1 + 2 ≤ _; omega
  · show hS v1.1 ≤ hS v1.1 + 4 + 8; omega
  · show hS v1.1 + 4 + 8 ≤ _; omega
end AXP
