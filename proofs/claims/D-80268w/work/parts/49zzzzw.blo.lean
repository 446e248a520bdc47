/-! COMPONENT, 38: a block begins *-/
section BOS
variable {r : Nat} {h : am_H} {R : Nat → Nat} {A : Nat → Int → Nat} {T : Nat → Nat} {w b own p0 : Int} {v : vT} {S U U1 : tSt} {o : Option Nat} {Q : am_O → am_H → Prop}
theorem tIsO_iff : tIsO S = true ↔ S 51 0 = 123 ∧ S 55 0 ≠ 8 := by
  unfold tIsO
  rw [Bool.and_eq_true, decide_eq_true_eq, decide_eq_true_eq]
theorem blk_open (c : CR h v) (g : GI R A T w own p0 v S U) (hP : PI w S U) (pr : PR w U) (qv : QV U) (w0 : 0 ≤ w ∧ w ≤ 1) (hb : b = w * 1024 + U 40 w) (ho : own = -1 ∨ As w U own) (op : tIsO S = true → OP w own b S U U1)
    (q1 : tIsO S = true → oS S b 51 0 ≠ -2 → ∀ h' v' a l, CR h' v' → MX R T v v' (20 * (oS S b 47 0 - S 47 0) + 6) (200 * (oS S b 47 0 - S 47 0) + 40) → Fw (Xn (R 0) (R 2)) v v' → hN v.1 ≤ l → hK v'.1 a = 21 → hI v'.1 a 1 = iI (S 49 0) → hR v'.1 a 0 = some l → hK v'.1 l = 4 → vLs v' l = [] → GI R (Aeb A b a) (Tst T l 4) w (-1) p0 v' (oS S b) U1 → Rn r 134 57 [some (vR (some (R 0))), some (vR o), some (vR (some a))] [] h' Q)
    (q2 : tIsO S = true → oS S b 51 0 = -2 → ∀ h' v', CR h' v' → MX R T v v' 6 40 → hI v'.1 (R 2) 6 = iI (oS S b 49 0) → vCp v' (R 9) = vCp v (R 9) → Q (Sum.inr (R 2)) h')
    (q3 : ¬ tIsO S = true → ∀ h' v', CR h' v' → Wg (R 0) (R 2) 0 0 v v' (S 49 0) → Q (Sum.inr (R 2)) h') : Cl r 134 [vR (some (R 0)), vR o] h Q := by
  have g1 := g.1
  have k0 := g1.w0.1
  have kr := c.kk k0 (by decide)
  have k9 := g.k9
  have d8 := hP.1.2.2.2.2.2.2.2
  have e6 : hI h (R 0) 6 = iI (S 51 0) := by rw [c.ii k0 rfl]; exact g1.1.2.2.2.1
  have e9v : hI v.1 (R 0) 9 = iI (S 55 0) := g.2.2.2.2.2.2.1.2.2
  have e9 : hI h (R 0) 9 = iI (S 55 0) := by rw [c.ii k0 rfl]; exact e9v
  have s51 := g1.2.1.2.2.2.1
  have i123 : iI (S 51 0) = iI 123 ↔ S 51 0 = 123 := iI_eq (by omega) (by omega) (by omega) (by omega)
  have key : Rn r 134 24 [some (vR (some (R 0))), some (vR o), none] [vI (bI (tIsO S = true)), vR (some (R 0))] h Q := by
    rw [sX1_block_24 kr]
    refine t_need c g1 (fun p => ?_) (fun p h' v' c' w' => ?_)
    · obtain ⟨p1, p2⟩ := tIsO_iff.mp p
      rw [Kt_0, sX1_block_27, sX1_block_28, sX1_block_29 kr, e9, sX1_block_32, sX1_block_33, i_1, iI_add, sX1_block_34 kr, sX1_block_37, sX1_block_40, sX1_block_41 (by rw [nw_h]; decide) (by rw [nw_h]; decide)]
      have c1 := CR_pI (k := 9) (x := iI (S 55 0 + 1)) c k0 rfl
      have f1 : Fw (fun c k => c = R 0 ∧ k = 9) v (vpI v (R 0) 9 (iI (S 55 0 + 1))) := Fw.refl.pI (Or.inr ⟨rfl, rfl⟩)
      have n9 : hI (vpI v (R 0) 9 (iI (S 55 0 + 1))).1 (R 0) 9 = iI (S 55 0 + 1) := by rw [vpI_1, hI_putI, if_pos ⟨rfl, rfl⟩]
      have m1 : hN (vpI v (R 0) 9 (iI (S 55 0 + 1))).1 = hN v.1 := rfl
      have s1 : hS (vpI v (R 0) 9 (iI (S 55 0 + 1))).1 = hS v.1 := rfl
      have cp1 : vCp (vpI v (R 0) 9 (iI (S 55 0 + 1))) = vCp v := rfl
      generalize (vpI v (R 0) 9 (iI (S 55 0 + 1))) = v1 at *
      generalize (putI h (R 0) 9 (iI (S 55 0 + 1))) = h1 at *
      have nn := c1.hn
      have c2 := CR_nw (m := 21) (n := 4) c1 rfl
      rw [nn, m1]
      rw [m1] at nn
      have ka : hK (vnw v1 21 4).1 (hN v.1) = 21 := by rw [← m1]; exact nw_k
      refine c_iBlock c2 ka (fun h3 c3 => ?_)
      have l2 : hN (vnw v1 21 4).1 = hN v.1 + 1 := by rw [vnw_1, hN_newC, m1]
      rw [l2] at c3
      have f3 : Fw (fun c k => c = R 0 ∧ k = 9) v (vpR (vLn (vnw v1 21 4) 3) (hN v.1) 0 (some (hN v.1 + 1))) := ((f1.nw).trans (vLn_f.mono (fun _ _ z => z.elim))).pR (Or.inl (Nat.le_refl _))
      have ka3 : hK (vpR (vLn (vnw v1 21 4) 3) (hN v.1) 0 (some (hN v.1 + 1))).1 (hN v.1) = 21 := vLn_f.kk ka (by decide)
      have kl3 : hK (vpR (vLn (vnw v1 21 4) 3) (hN v.1) 0 (some (hN v.1 + 1))).1 (hN v.1 + 1) = 4 := by rw [← l2]; exact vLn_k
      have ll3 : vLs (vpR (vLn (vnw v1 21 4) 3) (hN v.1) 0 (some (hN v.1 + 1))) (hN v.1 + 1) = [] := by rw [← l2]; exact vLn_l
      have r03 : hR (vpR (vLn (vnw v1 21 4) 3) (hN v.1) 0 (some (hN v.1 + 1))).1 (hN v.1) 0 = some (hN v.1 + 1) := by rw [vpR_1, hR_putR, if_pos ⟨rfl, rfl⟩]
      have n3 : hN (vpR (vLn (vnw v1 21 4) 3) (hN v.1) 0 (some (hN v.1 + 1))).1 = hN v.1 + 3 := by
        show hN (vLn (vnw v1 21 4) 3).1 = _
        rw [vLn_n, l2]
      have s3 : hS (vpR (vLn (vnw v1 21 4) 3) (hN v.1) 0 (some (hN v.1 + 1))).1 = hS v.1 + 10 := by
        show hS (vLn (vnw v1 21 4) 3).1 = _
        rw [vLn_s, vnw_1, hS_newC, s1]
      have n93 : hI (vpR (vLn (vnw v1 21 4) 3) (hN v.1) 0 (some (hN v.1 + 1))).1 (R 0) 9 = iI (S 55 0 + 1) := by
        have fx : Fw (fun _ _ => False) v1 (vpR (vLn (vnw v1 21 4) 3) (hN v.1) 0 (some (hN v.1 + 1))) := ((Fw.refl.nw).trans vLn_f).pR (Or.inl (by rw [m1]; exact Nat.le_refl _))
        rw [(fx.ff (by rw [m1]; exact hK_lt k0 (by decide)) (fun z => z)).1]
        exact n9
      generalize (vpR (vLn (vnw v1 21 4) 3) (hN v.1) 0 (some (hN v.1 + 1))) = v3 at *
      have k03 := f3.kk k0 (by decide)
      have e43 : hI h3 (R 0) 4 = iI (S 49 0) := by
        rw [c3.ii k03 rfl, (f3.ff (hK_lt k0 (by decide)) (fun z => by omega)).1]
        exact g1.1.2.2.1
      rw [Kt_0, sX1_block_44, sX1_block_45, sX1_block_46, sX1_block_47 (c3.kk k03 (by decide)), e43, sX1_block_50 (c3.kk ka3 (by decide)), sX1_block_53, sX1_block_54 (by rw [hK_putI]; exact c3.kk k03 (by decide))]
      have c4 := CR_pI (k := 1) (x := iI (S 49 0)) c3 ka3 rfl
      have f4 : Fw (fun c k => c = R 0 ∧ k = 9) v (vpI v3 (hN v.1) 1 (iI (S 49 0))) := f3.pI (Or.inl (Nat.le_refl _))
      have ka4 : hK (vpI v3 (hN v.1) 1 (iI (S 49 0))).1 (hN v.1) = 21 := ka3
      have kl4 : hK (vpI v3 (hN v.1) 1 (iI (S 49 0))).1 (hN v.1 + 1) = 4 := kl3
      have ll4 : vLs (vpI v3 (hN v.1) 1 (iI (S 49 0))) (hN v.1 + 1) = [] := ll3
      have r04 : hR (vpI v3 (hN v.1) 1 (iI (S 49 0))).1 (hN v.1) 0 = some (hN v.1 + 1) := by rw [vpI_1, hR_putI]; exact r03
      have i14 : hI (vpI v3 (hN v.1) 1 (iI (S 49 0))).1 (hN v.1) 1 = iI (S 49 0) := by rw [vpI_1, hI_putI, if_pos ⟨rfl, rfl⟩]
      have n94 : hI (vpI v3 (hN v.1) 1 (iI (S 49 0))).1 (R 0) 9 = iI (S 55 0 + 1) := by
        rw [vpI_1, hI_putI, if_neg (fun z => by have := z.2; omega)]
        exact n93
      have n4 : hN (vpI v3 (hN v.1) 1 (iI (S 49 0))).1 = hN v.1 + 3 := n3
      have s4 : hS (vpI v3 (hN v.1) 1 (iI (S 49 0))).1 = hS v.1 + 10 := s3
      generalize (vpI v3 (hN v.1) 1 (iI (S 49 0))) = v4 at *
      generalize (putI h3 (hN v.1) 1 (iI (S 49 0))) = h4 at *
      have t4 : PT v4 (R 0) (R 1) (R 2) S := PT_fw f4 g1 (fun k hk y => by omega) (fun k y => by have := g1.w0.2.2; rw [y.1, k0] at this; exact absurd this (by decide)) (fun a y => by omega)
      have t5 : PT v4 (R 0) (R 1) (R 2) (up (up S 56 (S 55 0) b) 55 0 (S 55 0 + 1)) := PT_dep t4 (fun f h5 h6 => by rw [up_n h5, up_n h6]) (by rw [up_s]; omega)
      have e47 : up (up S 56 (S 55 0) b) 55 0 (S 55 0 + 1) 47 0 = S 47 0 := by rw [up_n (by decide), up_n (by decide)]
      have cp4 : vCp v4 (R 9) = vCp v (R 9) := (f4.cc (hK_lt k9 (by decide)) (fun z => by omega)).2.2.1
      refine t_next c4 t5 (fun z h' v' c' f' t' n1 s0 s1' _ => ?_) (fun z h' v' c' w' => ?_)
      · rw [e47] at n1 s1'
        change (hN v'.1 : Int) ≤ hN v4.1 + 20 * (oS S b 47 0 - S 47 0) at n1
        change (hS v'.1 : Int) ≤ hS v4.1 + 200 * (oS S b 47 0 - S 47 0) at s1'
        have F : Fw (Xn (R 0) (R 2)) v v' := (f4.mono (fun c k y => Or.inr y)).trans (f'.mono (fun a k y => by
          rcases y with y | y
          · exact Or.inl (Or.inl ⟨y.1, by omega⟩)
          · exact Or.inl (Or.inr y)))
        have q : ∀ {c : Nat} (k : Nat), c < hN v4.1 → c ≠ R 0 → c ≠ R 2 → hI v'.1 c k = hI v4.1 c k ∧ hJ v'.1 c k = hJ v4.1 c k ∧ hR v'.1 c k = hR v4.1 c k := fun k hc h1 h2 => f'.ff hc (fun y => by
          rcases y with y | y
          · exact h1 y.1
          · exact h2 y.1)
        have l0 := hK_lt k0 (by decide)
        have l2' := hK_lt g1.w0.2.1 (by decide)
        have cp' : vCp v' (R 9) = vCp v (R 9) := by rw [(f'.cc (hK_lt (f4.kk k9 (by decide)) (by decide)) (fun y => by rcases y with y | y <;> omega)).2.2.1, cp4]
        have n9' : hI v'.1 (R 0) 9 = iI (S 55 0 + 1) := by
          rw [(f'.ff (hK_lt (f4.kk k0 (by decide)) (by decide)) (fun y => by
            rcases y with y | y
            · omega
            · omega)).1]
          exact n94
        refine q1 p z h' v' (hN v.1) (hN v.1 + 1) c' ⟨F.mono (fun c k y => ?_), by have := f'.1; omega, by omega, by omega, by rw [cp']; omega, by rw [cp']; exact Nat.le_refl _⟩ F (by omega) (f'.kk ka4 (by decide)) (by rw [(q 1 (by omega) (by omega) (by omega)).1]; exact i14) (by rw [(q 0 (by omega) (by omega) (by omega)).2.2]; exact r04) (f'.kk kl4 (by decide)) ?_ ?_
        · rcases y with (y | y) | y
          · exact Or.inl ⟨y.1, by omega⟩
          · exact Or.inr (Or.inl y)
          · exact Or.inl ⟨y.1, by omega⟩
        · rw [(f'.cc (by omega) (fun y => by rcases y with y | y <;> omega)).1]
          exact ll4
        · refine GI_open g hP pr qv w0 hb ho (op p) F t' n9' ?_ (by omega) (f'.kk kl4 (by decide))
          have := (tAdv_47 t5.2.1).1
          rw [e47] at this
          exact this
      · obtain ⟨x1, x2, x3, x4, x5⟩ := w'
        rw [Kt_x]
        have cp' : vCp v' (R 9) = vCp v (R 9) := by rw [(x1.cc (hK_lt (f4.kk k9 (by decide)) (by decide)) (fun y => by rcases y with y | y <;> omega)).2.2.1, cp4]
        refine q2 p z h' v' c' ⟨((f4.mono (fun c k y => Or.inl ⟨y.1, by omega⟩)).trans (x1.mono (fun a k y => by
          rcases y with y | y
          · exact Or.inl ⟨y.1, by omega⟩
          · exact Or.inr (Or.inl y)))), by have := x1.1; omega, by omega, by omega, by rw [cp']; omega, by rw [cp']; exact Nat.le_refl _⟩ x2 cp'
    · rw [Kt_x]
      exact q3 p h' v' c' w'
  rw [eX1_block, sX1_block_0, sX1_block_1, sX1_block_2 kr, e6, sX1_block_5, sX1_block_7, i_123]
  unfold bI at key
  by_cases p1 : S 51 0 = 123
  · rw [if_neg (fun z => z (i123.mpr p1)), sX1_block_10, sX1_block_11 kr, e9, sX1_block_14, sX1_block_16, i_8]
    by_cases p2 : S 55 0 = 8
    · rw [if_pos (by rw [iI_le (by omega) (by omega) (by omega) (by omega)]; omega), sX1_block_23]
      rw [if_neg (c := tIsO S = true) (fun z => (tIsO_iff.mp z).2 p2)] at key
      exact key
    · rw [if_neg (by rw [iI_le (by omega) (by omega) (by omega) (by omega)]; omega), sX1_block_19, sX1_block_20]
      rw [if_pos (c := tIsO S = true) (tIsO_iff.mpr ⟨p1, p2⟩)] at key
      exact key
  · rw [if_pos (fun z => p1 (i123.mp z)), sX1_block_23]
    rw [if_neg (c := tIsO S = true) (fun z => p1 (tIsO_iff.mp z).1)] at key
    exact key
end BOS
