/-! COMPONENT, 82: a kind comes into its unit (add, 78) *-/
section UAD
variable {r u lk mk a : Nat} {h : am_H} {v : vT} {o : Option Nat} {y : Int32} {Q : am_O → am_H → Prop}
theorem c_uadd (c : CR h v) (ku : hK v.1 u = 5) (r0 : hR v.1 u 0 = some lk) (kl : hK v.1 lk = 4) (r1 : hR v.1 u 1 = some mk) (km : hK v.1 mk = 6) (ka : hK v.1 a = 10 ∨ (hK v.1 a = 11 ∧ (vTx v a).length < 8)) (kT : okK (vTx v a)) (t8 : (vTx v a).length ≤ 8) (sm : ∃ L : List (List Int32), L.length ≤ 15 ∧ ∀ s z, vMp v mk s = some z → s ∈ L) (len : (vLs v lk).length ≤ 15)
    (q : ∀ h' v', CR h' v' → Fw (fun b k => (b = lk ∨ b = mk) ∧ k = 99) v v' → hK v'.1 (hN v.1) = 7 → (hR v'.1 (hN v.1) 0 = some a ∧ hI v'.1 (hN v.1) 1 = iI (vLs v lk).length ∧ hR v'.1 (hN v.1) 2 = o ∧ hI v'.1 (hN v.1) 3 = y) → vLs v' lk = vLs v lk ++ [some (hN v.1)] → (∀ t, vMp v' mk t = if t = vTx v a ∧ vMp v mk t = none then some (hN v.1) else vMp v mk t) → hN v'.1 ≤ hN v.1 + 22 → hS v.1 ≤ hS v'.1 → hS v'.1 ≤ hS v.1 + 400 → Q (Sum.inl (some (vR (some (hN v.1))))) h') : Cl (r + 1) 78 [vR (some u), vR (some a), vR o, vI y] h Q := by
  have nn := c.hn
  have c1 := CR_nw (m := 7) (n := 4) c rfl
  have f1 : Fw (fun _ _ => False) v (vnw v 7 4) := Fw.refl.nw
  have ku1 := f1.kk ku (by decide)
  have kl1 := f1.kk kl (by decide)
  have r01 : hR (vnw v 7 4).1 u 0 = some lk := by rw [(f1.ff (hK_lt ku (by decide)) (fun y => y)).2.2]; exact r0
  have l1 : vLs (vnw v 7 4) lk = vLs v lk := rfl
  rw [eX3_add, sX3_add_0, sX3_add_3, sX3_add_4, sX3_add_5, sX3_add_6 (c1.kk ku1 (by decide)), c1.rr ku1 rfl, r01, sX3_add_9 (c1.kk kl1 (by decide)), v_size c1 kl1, Kt_v, sX3_add_12, sX3_add_13, sX3_add_14 (by rw [nw_h]; decide) (by rw [nw_h]; decide), c_iKind nw_h, Kt_0, sX3_add_17, sX3_add_19, l1, nn]
  have c2 := CR_pI (k := 3) (x := y) (CR_pR (k := 2) (z := o) (CR_pI (k := 1) (x := iI (vLs v lk).length) (CR_pR (k := 0) (z := some a) c1 nw_k rfl) (by exact nw_k) rfl) (by exact nw_k) rfl) (by exact nw_k) rfl
  have f2 : Fw (fun _ _ => False) v (vpI (vpR (vpI (vpR (vnw v 7 4) (hN v.1) 0 (some a)) (hN v.1) 1 (iI (vLs v lk).length)) (hN v.1) 2 o) (hN v.1) 3 y) := (((f1.pR (Or.inl (Nat.le_refl _))).pI (Or.inl (Nat.le_refl _))).pR (Or.inl (Nat.le_refl _))).pI (Or.inl (Nat.le_refl _))
  have k2 : hK (vpI (vpR (vpI (vpR (vnw v 7 4) (hN v.1) 0 (some a)) (hN v.1) 1 (iI (vLs v lk).length)) (hN v.1) 2 o) (hN v.1) 3 y).1 (hN v.1) = 7 := nw_k
  have e0 : hR (vpI (vpR (vpI (vpR (vnw v 7 4) (hN v.1) 0 (some a)) (hN v.1) 1 (iI (vLs v lk).length)) (hN v.1) 2 o) (hN v.1) 3 y).1 (hN v.1) 0 = some a := by
    rw [vpI_1, hR_putI, vpR_1, hR_putR, if_neg (fun q => absurd q.2 (by decide)), vpI_1, hR_putI, vpR_1, hR_putR, if_pos ⟨rfl, rfl⟩]
  have e1 : hI (vpI (vpR (vpI (vpR (vnw v 7 4) (hN v.1) 0 (some a)) (hN v.1) 1 (iI (vLs v lk).length)) (hN v.1) 2 o) (hN v.1) 3 y).1 (hN v.1) 1 = iI (vLs v lk).length := by
    rw [vpI_1, hI_putI, if_neg (fun q => absurd q.2 (by decide)), vpR_1, hI_putR, vpI_1, hI_putI, if_pos ⟨rfl, rfl⟩]
  have e2 : hR (vpI (vpR (vpI (vpR (vnw v 7 4) (hN v.1) 0 (some a)) (hN v.1) 1 (iI (vLs v lk).length)) (hN v.1) 2 o) (hN v.1) 3 y).1 (hN v.1) 2 = o := by
    rw [vpI_1, hR_putI, vpR_1, hR_putR, if_pos ⟨rfl, rfl⟩]
  have e3 : hI (vpI (vpR (vpI (vpR (vnw v 7 4) (hN v.1) 0 (some a)) (hN v.1) 1 (iI (vLs v lk).length)) (hN v.1) 2 o) (hN v.1) 3 y).1 (hN v.1) 3 = y := by
    rw [vpI_1, hI_putI, if_pos ⟨rfl, rfl⟩]
  have n2 : hN (vpI (vpR (vpI (vpR (vnw v 7 4) (hN v.1) 0 (some a)) (hN v.1) 1 (iI (vLs v lk).length)) (hN v.1) 2 o) (hN v.1) 3 y).1 = hN v.1 + 1 := rfl
  have s2 : hS (vpI (vpR (vpI (vpR (vnw v 7 4) (hN v.1) 0 (some a)) (hN v.1) 1 (iI (vLs v lk).length)) (hN v.1) 2 o) (hN v.1) 3 y).1 = hS v.1 + 4 := rfl
  generalize (vpI (vpR (vpI (vpR (vnw v 7 4) (hN v.1) 0 (some a)) (hN v.1) 1 (iI (vLs v lk).length)) (hN v.1) 2 o) (hN v.1) 3 y) = v2 at *
  generalize (putI (putR (putI (putR (newC h 7 4) (hN v.1) 0 (some a)) (hN v.1) 1 (iI (vLs v lk).length)) (hN v.1) 2 o) (hN v.1) 3 y) = h2 at *
  have ku2 := f2.kk ku (by decide)
  have kl2 := f2.kk kl (by decide)
  have r02 : hR v2.1 u 0 = some lk := by rw [(f2.ff (hK_lt ku (by decide)) (fun y => y)).2.2]; exact r0
  have ls2 : vLs v2 lk = vLs v lk := (f2.cc (hK_lt kl (by decide)) (fun y => y)).1
  rw [sX3_add_20 (c2.kk ku2 (by decide)), c2.rr ku2 rfl, r02, sX3_add_23, sX3_add_25 (c2.kk kl2 (by decide))]
  refine v_add c2 kl2 (z := some (hN v.1)) ⟨by rw [k2]; decide, by rw [k2]; decide⟩ (by rw [ls2]; omega) (fun h3 n' s' c' c3 gw => ?_)
  obtain ⟨w1, w2, w3, w4, w5, w6, w7, w8⟩ := grw_b gw (c2.cp kl2)
  rw [ls2] at w7
  have f3 : Fw (fun b k => b = lk ∧ k = 99) v2 (vsL (vbm v2 n' s') lk (vLs v2 lk ++ [some (hN v.1)]) c') := (Fw.refl.bm w1).sL (Or.inr ⟨rfl, rfl⟩)
  have ls3 : vLs (vsL (vbm v2 n' s') lk (vLs v2 lk ++ [some (hN v.1)]) c') lk = vLs v2 lk ++ [some (hN v.1)] := by rw [vLs_sL, if_pos rfl]
  have n3 : hN (vsL (vbm v2 n' s') lk (vLs v2 lk ++ [some (hN v.1)]) c').1 = n' := rfl
  have s3 : hS (vsL (vbm v2 n' s') lk (vLs v2 lk ++ [some (hN v.1)]) c').1 = s' := rfl
  generalize (vsL (vbm v2 n' s') lk (vLs v2 lk ++ [some (hN v.1)]) c') = v3 at *
  have F3 : Fw (fun b k => (b = lk ∨ b = mk) ∧ k = 99) v v3 := (f2.mono (fun _ _ y => y.elim)).trans (f3.mono (fun _ _ y => ⟨Or.inl y.1, y.2⟩))
  have nlm : mk ≠ lk := fun e => by rw [e, kl] at km; exact absurd km (by decide)
  have ku3 := F3.kk ku (by decide)
  have km3 := F3.kk km (by decide)
  have k3 := f3.kk k2 (by decide)
  have lv2 : hN v.1 < hN v2.1 := by omega
  have g3 := fun j (hj : j ≠ 99) => f3.ff (a := hN v.1) (k := j) lv2 (fun y => hj y.2)
  have r13 : hR v3.1 u 1 = some mk := by rw [(F3.ff (k := 1) (hK_lt ku (by decide)) (fun y => absurd y.2 (by decide))).2.2]; exact r1
  have mp3 : vMp v3 mk = vMp v mk := by
    rw [(f3.cc (hK_lt (f2.kk km (by decide)) (by decide)) (fun y => nlm y.1)).2.1, (f2.cc (hK_lt km (by decide)) (fun y => y)).2.1]
  have nal : a ≠ lk ∧ a ≠ mk := by
    refine ⟨fun e => ?_, fun e => ?_⟩
    · rw [e, kl] at ka; omega
    · rw [e, km] at ka; omega
  have la : a < hN v.1 := by rcases ka with e | e; exact hK_lt e (by decide); exact hK_lt e.1 (by decide)
  have tx3 : vTx v3 a = vTx v a := (F3.cc la (fun y => by have := nal; omega)).2.2.2
  have ka3 : hK v3.1 a = 10 ∨ (hK v3.1 a = 11 ∧ (vTx v3 a).length < 8) := by
    rcases ka with e | e
    · exact Or.inl (F3.kk e (by decide))
    · exact Or.inr ⟨F3.kk e.1 (by decide), by rw [tx3]; exact e.2⟩
  have fl : hR v3.1 (hN v.1) 0 = some a ∧ hI v3.1 (hN v.1) 1 = iI (vLs v lk).length ∧ hR v3.1 (hN v.1) 2 = o ∧ hI v3.1 (hN v.1) 3 = y := ⟨by rw [(g3 0 (by decide)).2.2]; exact e0, by rw [(g3 1 (by decide)).1]; exact e1, by rw [(g3 2 (by decide)).2.2]; exact e2, by rw [(g3 3 (by decide)).1]; exact e3⟩
  rw [ls2] at ls3
  rw [Kt_v, sX3_add_28, sX3_add_29, sX3_add_30 (c3.kk ku3 (by decide)), c3.rr ku3 rfl, r13, sX3_add_33, sX3_add_34 (c3.kk km3 (by decide))]
  refine v_mhas c3 km3 ka3 (by rw [tx3]; exact t8) (fun h4 c4 => ?_)
  rw [Kt_v, sX3_add_37, tx3, mp3]
  by_cases nw : vMp v mk (vTx v a) = none
  · rw [if_pos nw, if_neg (fun y => y rfl), sX3_add_40, sX3_add_41 (c4.kk ku3 (by decide)), c4.rr ku3 rfl, r13, sX3_add_44, sX3_add_45, sX3_add_47 (c4.kk km3 (by decide))]
    refine v_mput c4 km3 ka3 (by rw [tx3]; exact kT) (by rw [tx3, mp3]; exact nw) (by rw [mp3]; exact sm) (fun h5 n5 s5 c5 b1 b2 b3 b4 => ?_)
    have f5 : Fw (fun b k => b = mk ∧ k = 99) v3 (vsM (vbm v3 n5 s5) mk (vTx v3 a) (hN v.1)) := (Fw.refl.bm b1).sM (Or.inr ⟨rfl, rfl⟩)
    rw [Kt_v, sX3_add_50, sX3_add_51, sX3_add_53]
    have g5 := fun j (hj : j ≠ 99) => f5.ff (a := hN v.1) (k := j) (hK_lt k3 (by decide)) (fun y => hj y.2)
    refine q h5 _ c5 (F3.trans (f5.mono (fun _ _ y => ⟨Or.inr y.1, y.2⟩))) (f5.kk k3 (by decide)) ⟨by rw [(g5 0 (by decide)).2.2]; exact fl.1, by rw [(g5 1 (by decide)).1]; exact fl.2.1, by rw [(g5 2 (by decide)).2.2]; exact fl.2.2.1, by rw [(g5 3 (by decide)).1]; exact fl.2.2.2⟩ (by rw [(f5.cc (hK_lt (F3.kk kl (by decide)) (by decide)) (fun y => nlm y.1.symm)).1]; exact ls3) (fun t => ?_) ?_ ?_ ?_
    · rw [vMp_sM, tx3]
      by_cases e : t = vTx v a
      · rw [if_pos ⟨rfl, e⟩, if_pos ⟨e, by rw [e]; exact nw⟩]
      · rw [if_neg (fun q => e q.2), if_neg (fun q => e q.1), vMp_bm, mp3]
    · show n5 ≤ _
      omega
    · show _ ≤ s5
      omega
    · show s5 ≤ _
      omega
  · rw [if_neg nw, if_pos (by decide), sX3_add_51, sX3_add_53]
    refine q h4 v3 c4 F3 k3 fl ls3 (fun t => ?_) (by omega) (by omega) (by omega)
    rw [mp3, if_neg (fun q => nw (by rw [← q.1]; exact q.2))]
end UAD
