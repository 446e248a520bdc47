/-! COMPONENT, 68: the head of a catch *-/
section CGH
variable {r a l9 : Nat} {h : am_H} {R : Nat → Nat} {A : Nat → Int → Nat} {T : Nat → Nat} {w s p0 : Int} {v : vT} {S U : tSt} {o : Option Nat} {e : Option Nat} {Q : am_O → am_H → Prop} {L : List tMi}
/-- caught, pc 0-28: a new catch, in the list of its try; the bracket -/
theorem cg_head (cr : CR h v) (md : MD R A T w s p0 v S U o) (ka : hK v.1 a = 36) (r9 : hR v.1 a 9 = some l9) (k9 : hK v.1 l9 = 4) (t9 : T l9 = 4) (len : (vLs v l9).length ≤ 4) (ml : ML v (R 9) L)
    (q1 : tAdv S 51 0 = 40 → tAdv (tAdv S) 51 0 ≠ -2 → ∀ h' v', CR h' v' → Fw (fun b k => Xq (R 0) (R 2) b k ∨ (b = l9 ∧ k = 99)) v v' → hK v'.1 (hN v.1) = 22 → hR v'.1 (hN v.1) 0 = some a → hR v'.1 (hN v.1) 1 = some (hN v.1 + 1) → hI v'.1 (hN v.1) 4 = 0 → hK v'.1 (hN v.1 + 1) = 4 → vLs v' (hN v.1 + 1) = [] → vLs v' l9 = vLs v l9 ++ [some (hN v.1)] → PT v' (R 0) (R 1) (R 2) (tAdv (tAdv S)) → ML v' (R 9) L → RM (R 9) v v' (20 * (tAdv (tAdv S) 47 0 - S 47 0) + 5) (200 * (tAdv (tAdv S) 47 0 - S 47 0) + 40) → hN v.1 + 2 ≤ hN v'.1 →
      Rn r 283 28 [some (vR (some (R 0))), some (vR (some a)), some (vR e), some (vR (some (hN v.1))), none, none] [] h' Q)
    (q2 : ∀ h' v' p, CR h' v' → Fw (fun b k => Xq (R 0) (R 2) b k ∨ (b = l9 ∧ k = 99)) v v' → RM (R 9) v v' (20 * (S 48 0 - S 47 0) + 5) (200 * (S 48 0 - S 47 0) + 40) → hI v'.1 (R 2) 6 = iI p → vCp v' (R 9) = vCp v (R 9) → (tAdv S 51 0 ≠ 40 → p = tAdv S 49 0) → (tAdv S 51 0 = 40 → tAdv (tAdv S) 51 0 = -2 ∧ p = tAdv (tAdv S) 49 0) → Q (Sum.inr (R 2)) h') : Cl r 283 [vR (some (R 0)), vR (some a), vR e] h Q := by
  obtain ⟨g, ⟨hP, pr, qv, w0⟩, ⟨d1, s52⟩, ar, hsA, e22, ch⟩ := md
  have k0 := g.1.w0.1
  have k2 := g.1.w0.2.1
  have kt := g.1.w0.2.2
  have kR9 := g.k9
  have tR9 := g.2.2.2.2.2.1.2.2.2.2.2.2.1.2.1
  have n99 : l9 ≠ R 9 := fun q => by rw [q, tR9] at t9; exact absurd t9 (by decide)
  have si := g.1.2.1
  have a47 := tAdv_47 si
  have si1 := SI_adv si
  have b47 := tAdv_47 si1
  have e48 : tAdv S 48 0 = S 48 0 := by rw [tAdv_55.2.2.1]
  have le1 : tAdv S 47 0 ≤ S 48 0 := by have := si1.1.2.1; omega
  have nn := cr.hn
  have l0 := hK_lt k0 (by decide)
  have l2 := hK_lt k2 (by decide)
  have la := hK_lt ka (by decide)
  have ll9 := hK_lt k9 (by decide)
  have lR9 := hK_lt kR9 (by decide)
  rw [eX1_caught, sX1_caught_0, sX1_caught_3, sX1_caught_4, sX1_caught_5 (by rw [nw_h]; decide) (by rw [nw_h]; decide), nn]
  have c0 := CR_nw (m := 22) (n := 6) cr rfl
  refine c_iCatch c0 nw_k (fun h1 c1 => ?_)
  have e1 : hN (vnw v 22 6).1 = hN v.1 + 1 := rfl
  rw [e1] at c1
  have f1 : Fw (fun _ _ => False) v (vpR (vpR (vLn (vnw v 22 6) 1) (hN v.1) 1 (some (hN v.1 + 1))) (hN v.1) 0 (some a)) := (((Fw.refl.nw).trans vLn_f).pR (Or.inl (Nat.le_refl _))).pR (Or.inl (Nat.le_refl _))
  have kc1 : hK (vpR (vpR (vLn (vnw v 22 6) 1) (hN v.1) 1 (some (hN v.1 + 1))) (hN v.1) 0 (some a)).1 (hN v.1) = 22 := vLn_f.kk nw_k (by decide)
  have kl1 : hK (vpR (vpR (vLn (vnw v 22 6) 1) (hN v.1) 1 (some (hN v.1 + 1))) (hN v.1) 0 (some a)).1 (hN v.1 + 1) = 4 := by rw [← e1]; exact vLn_k
  have ll1 : vLs (vpR (vpR (vLn (vnw v 22 6) 1) (hN v.1) 1 (some (hN v.1 + 1))) (hN v.1) 0 (some a)) (hN v.1 + 1) = [] := by rw [← e1]; exact vLn_l
  have r01 : hR (vpR (vpR (vLn (vnw v 22 6) 1) (hN v.1) 1 (some (hN v.1 + 1))) (hN v.1) 0 (some a)).1 (hN v.1) 0 = some a := by rw [vpR_1, hR_putR, if_pos ⟨rfl, rfl⟩]
  have r11 : hR (vpR (vpR (vLn (vnw v 22 6) 1) (hN v.1) 1 (some (hN v.1 + 1))) (hN v.1) 0 (some a)).1 (hN v.1) 1 = some (hN v.1 + 1) := by rw [vpR_1, hR_putR, if_neg (fun y => absurd y.2 (by decide)), vpR_1, hR_putR, if_pos ⟨rfl, rfl⟩]
  have i41 : hI (vpR (vpR (vLn (vnw v 22 6) 1) (hN v.1) 1 (some (hN v.1 + 1))) (hN v.1) 0 (some a)).1 (hN v.1) 4 = 0 := by
    rw [vpR_1, hI_putR, vpR_1, hI_putR, (vLn_f.ff (v := vnw v 22 6) (k := 4) (by rw [e1]; omega) (fun y => y)).1, vnw_1, hI_newC, if_pos rfl]
  have n1 : hN (vpR (vpR (vLn (vnw v 22 6) 1) (hN v.1) 1 (some (hN v.1 + 1))) (hN v.1) 0 (some a)).1 = hN v.1 + 3 := rfl
  have s1 : hS (vpR (vpR (vLn (vnw v 22 6) 1) (hN v.1) 1 (some (hN v.1 + 1))) (hN v.1) 0 (some a)).1 = hS v.1 + 10 := rfl
  generalize (vpR (vpR (vLn (vnw v 22 6) 1) (hN v.1) 1 (some (hN v.1 + 1))) (hN v.1) 0 (some a)) = v1 at *
  have ka1 := f1.kk ka (by decide)
  have k91 := f1.kk k9 (by decide)
  have ls1 : vLs v1 l9 = vLs v l9 := (f1.cc ll9 (fun y => y)).1
  have r91 : hR v1.1 a 9 = some l9 := by rw [(f1.ff (k := 9) la (fun y => y)).2.2]; exact r9
  rw [Kt_0, sX1_caught_8, sX1_caught_9, sX1_caught_10 (c1.kk ka1 (by decide)), c1.rr ka1 rfl, r91, sX1_caught_13, sX1_caught_14 (c1.kk k91 (by decide))]
  refine v_add c1 k91 (z := some (hN v.1)) ⟨by rw [kc1]; decide, by rw [kc1]; decide⟩ (by rw [ls1]; omega) (fun h2 n' s' c' c2 gw => ?_)
  obtain ⟨w1, w2, w3, w4, w5, w6, w7, w8⟩ := grw_b gw (c1.cp k91)
  rw [ls1] at w7
  have f2 : Fw (fun b k => b = l9 ∧ k = 99) v1 (vsL (vbm v1 n' s') l9 (vLs v1 l9 ++ [some (hN v.1)]) c') := (Fw.refl.bm w1).sL (Or.inr ⟨rfl, rfl⟩)
  have ls2 : vLs (vsL (vbm v1 n' s') l9 (vLs v1 l9 ++ [some (hN v.1)]) c') l9 = vLs v l9 ++ [some (hN v.1)] := by rw [vLs_sL, if_pos rfl, ls1]
  have n2 : hN (vsL (vbm v1 n' s') l9 (vLs v1 l9 ++ [some (hN v.1)]) c').1 = n' := rfl
  have s2 : hS (vsL (vbm v1 n' s') l9 (vLs v1 l9 ++ [some (hN v.1)]) c').1 = s' := rfl
  generalize (vsL (vbm v1 n' s') l9 (vLs v1 l9 ++ [some (hN v.1)]) c') = v2 at *
  have F2 : Fw (fun b k => b = l9 ∧ k = 99) v v2 := (f1.mono (fun _ _ y => y.elim)).trans f2
  have k02 := F2.kk k0 (by decide)
  have kR92 := F2.kk kR9 (by decide)
  have ml2 : ML v2 (R 9) L := ML_fw F2 ml (fun y => n99 y.1.symm) (fun b k y hk => by omega)
  have cp2 : vCp v2 (R 9) = vCp v (R 9) := (F2.cc lR9 (fun y => n99 y.1.symm)).2.2.1
  have t2 : PT v2 (R 0) (R 1) (R 2) S := PT_fw F2 g.1 (fun k hk y => by omega) (fun k y => by rw [y.1, k9] at kt; exact absurd kt (by decide)) (fun b y => by rw [y.1, k9]; decide)
  have rm2 : RM (R 9) v v2 5 40 := ⟨F2.1, by omega, by omega, by rw [cp2]; omega, by rw [cp2]; exact Nat.le_refl _⟩
  have xq : ∀ b k, Xq (R 0) (R 2) b k → (b = R 0 ∨ b = R 2) ∧ k ≠ 99 := fun b k y => by
    rcases y with y | y
    · exact ⟨Or.inl y.1, by omega⟩
    · exact ⟨Or.inr y.1, by omega⟩
  have G2 : Fw (fun b k => Xq (R 0) (R 2) b k ∨ (b = l9 ∧ k = 99)) v v2 := F2.mono (fun b k y => Or.inr y)
  have wgf : ∀ {vx : vT} {Sx : tSt} {c3 d3 : Int} h' v' p, PT vx (R 0) (R 1) (R 2) Sx → CR h' v' → Fw (fun b k => Xq (R 0) (R 2) b k ∨ (b = l9 ∧ k = 99)) v vx → RM (R 9) v vx c3 d3 → vCp vx (R 9) = vCp v (R 9) → hK vx.1 (R 9) = 4 → c3 ≤ 20 * (S 48 0 - S 47 0) + 5 → d3 ≤ 200 * (S 48 0 - S 47 0) + 40 → Wg (R 0) (R 2) 0 0 vx v' p → (tAdv S 51 0 ≠ 40 → p = tAdv S 49 0) → (tAdv S 51 0 = 40 → tAdv (tAdv S) 51 0 = -2 ∧ p = tAdv (tAdv S) 49 0) → Q (Sum.inr (R 2)) h' := fun {vx Sx c3 d3} h' v' p tx c' Gx rmx cpx kx hc hd wg z1 z2 => by
    obtain ⟨w1, w2, w3, w4, w5⟩ := wg
    have cp' : vCp v' (R 9) = vCp vx (R 9) := (w1.cc (hK_lt kx (by decide)) (fun y => (xq _ _ y).2 rfl)).2.2.1
    exact q2 h' v' p c' (Gx.trans (w1.mono (fun b k y => Or.inl y))) ((rmx.trans ⟨w1.1, by omega, w4, by rw [cp']; omega, by rw [cp']; exact Nat.le_refl _⟩ : RM (R 9) v v' (c3 + 0) (d3 + 0)).le (by omega) (by omega)) w2 (by rw [cp', cpx]) z1 z2
  rw [Kt_v, sX1_caught_17, sX1_caught_18, sX1_caught_19 (c2.kk k02 (by decide))]
  refine t_next c2 t2 (fun z h3 v3 c3 f3 t3 n3 s03 s3 _ => ?_) (fun z h3 v3 c3 wg => ?_)
  · have k03 := f3.kk k02 (by decide)
    have kR93 := f3.kk kR92 (by decide)
    have cp3 : vCp v3 (R 9) = vCp v (R 9) := by rw [(f3.cc (hK_lt kR92 (by decide)) (fun y => (xq _ _ y).2 rfl)).2.2.1, cp2]
    have G3 := G2.trans (f3.mono (fun b k y => Or.inl y))
    have rm3 : RM (R 9) v v3 (5 + 20 * (tAdv S 47 0 - S 47 0)) (40 + 200 * (tAdv S 47 0 - S 47 0)) := rm2.trans ⟨f3.1, n3, s03, by rw [cp3, cp2]; omega, by rw [cp3, cp2]; exact Nat.le_refl _⟩
    rw [Kt_0, sX1_caught_22, sX1_caught_23, sX1_caught_25 (c3.kk k03 (by decide)), i_40]
    refine t_want c3 t3 (by omega) (fun x51 z2 h4 v4 c4 f4 t4 n4 s04 s4 _ => ?_) (fun x51 z2 h4 v4 c4 wg => ?_) (fun x51 h4 v4 c4 wg => ?_)
    · have cp4 : vCp v4 (R 9) = vCp v3 (R 9) := (f4.cc (hK_lt kR93 (by decide)) (fun y => (xq _ _ y).2 rfl)).2.2.1
      have f24 := f3.trans f4
      have lc : hN v.1 < hN v2.1 := by omega
      have nc : ∀ j, ¬ Xq (R 0) (R 2) (hN v.1) j := fun j y => by
        have := (xq _ _ y).1
        omega
      have fc2 := fun j (hj : j ≠ 99) => f2.ff (a := hN v.1) (k := j) (by omega) (fun y => hj y.2)
      have fc := fun j => f24.ff (a := hN v.1) (k := j) lc (nc j)
      have kc2 := f2.kk kc1 (by decide)
      have kl2 := f2.kk kl1 (by decide)
      rw [Kt_0]
      refine q1 x51 z2 h4 v4 c4 (G3.trans (f4.mono (fun b k y => Or.inl y))) (f24.kk kc2 (by decide)) (by rw [(fc 0).2.2, (fc2 0 (by decide)).2.2]; exact r01) (by rw [(fc 1).2.2, (fc2 1 (by decide)).2.2]; exact r11) (by rw [(fc 4).1, (fc2 4 (by decide)).1]; exact i41) (f24.kk kl2 (by decide)) ?_ ?_ t4 (ML_fw f24 ml2 (fun y => (xq _ _ y).2 rfl) (fun b k y hk => ?_)) ((rm3.trans ⟨f4.1, n4, s04, by rw [cp4]; omega, by rw [cp4]; exact Nat.le_refl _⟩ : RM (R 9) v v4 (5 + 20 * (tAdv S 47 0 - S 47 0) + 20 * (tAdv (tAdv S) 47 0 - tAdv S 47 0)) (40 + 200 * (tAdv S 47 0 - S 47 0) + 200 * (tAdv (tAdv S) 47 0 - tAdv S 47 0))).le (by omega) (by omega)) (by have := f24.1; omega)
      · rw [(f24.cc (hK_lt kl2 (by decide)) (fun y => (xq _ _ y).2 rfl)).1, (f2.cc (hK_lt kl1 (by decide)) (fun y => by omega)).1]
        exact ll1
      · rw [(f24.cc (hK_lt (F2.kk k9 (by decide)) (by decide)) (fun y => (xq _ _ y).2 rfl)).1]
        exact ls2
      · rcases (xq _ _ y).1 with q | q
        · rw [q, k02]; decide
        · rw [q, F2.kk k2 (by decide)]; decide
    · rw [Kt_x]
      exact wgf h4 v4 _ t3 c4 G3 rm3 cp3 kR93 (by omega) (by omega) wg (fun q => absurd x51 q) (fun _ => ⟨z2, rfl⟩)
    · rw [Kt_x]
      exact wgf h4 v4 _ t3 c4 G3 rm3 cp3 kR93 (by omega) (by omega) wg (fun _ => rfl) (fun q => absurd q x51)
  · rw [Kt_x]
    have le := g.1.le
    exact wgf h3 v3 _ t2 c3 G2 rm2 cp2 kR92 (by omega) (by omega) wg (fun _ => rfl) (fun q => by omega)
end CGH
