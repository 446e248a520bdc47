/-! COMPONENT, 86: a new method (way, pc 9-66) *-/
section WYO
variable {r rd u lm mm lx nm : Nat} {h : am_H} {v : vT} {x p : Int} {L : List tMi} {Q : am_O → am_H → Prop} {l2 l3 : Option am_V}
theorem wy_new (c : CR h v) (kr : hK v.1 rd = 2) (r7 : hR v.1 rd 7 = some u) (ku : hK v.1 u = 5) (r2 : hR v.1 u 2 = some lm) (kl : hK v.1 lm = 4) (r3 : hR v.1 u 3 = some mm) (km : hK v.1 mm = 6) (r5 : hR v.1 u 5 = some lx) (kx : hK v.1 lx = 4) (nlx : lm ≠ lx) (m : ML v lx L) (hl : L.length ≤ 14000) (tn : TN1 v nm x) (e14 : hI v.1 rd 14 = iI p) (hp : -1 ≤ p ∧ p < 100000) (sm : ∃ L : List (List Int32), L.length ≤ 15 ∧ ∀ s z, vMp v mm s = some z → s ∈ L) (len : (vLs v lm).length ≤ 15)
    (q : ∀ h' v', CR h' v' → Fw (fun b k => (b = rd ∧ k = 8) ∨ ((b = lm ∨ b = mm ∨ b = lx) ∧ k = 99)) v v' → hR v'.1 rd 8 = some (hN v.1) → MC v' (hN v.1) nm (hN v.1 + 1) (vLs v lm).length p → vLs v' lm = vLs v lm ++ [some (hN v.1)] → (∀ t, vMp v' mm t = if t = vTx v nm ∧ vMp v mm t = none then some (hN v.1) else vMp v mm t) → ML v' lx (insA L (if vMp v mm (vTx v nm) = none then [] else [(2, (p, -1))])) → RM lx v v' 30 420 → Rn (r + 1) 84 95 [some (vR (some rd)), some (vR (some nm)), some (vR (some (hN v.1))), some (vI (if vMp v mm (vTx v nm) = none then 0 else 1))] [] h' Q) :
    Rn (r + 1) 84 9 [some (vR (some rd)), some (vR (some nm)), l2, l3] [] h Q := by
  have nn := c.hn
  have c1 := CR_nw (m := 18) (n := 9) c rfl
  have f1 : Fw (fun _ _ => False) v (vnw v 18 9) := Fw.refl.nw
  have kr1 := f1.kk kr (by decide)
  have ku1 := f1.kk ku (by decide)
  have kl1 := f1.kk kl (by decide)
  have r71 : hR (vnw v 18 9).1 rd 7 = some u := by rw [(f1.ff (hK_lt kr (by decide)) (fun y => y)).2.2]; exact r7
  have r21 : hR (vnw v 18 9).1 u 2 = some lm := by rw [(f1.ff (hK_lt ku (by decide)) (fun y => y)).2.2]; exact r2
  have e141 : hI (vnw v 18 9).1 rd 14 = iI p := by rw [(f1.ff (hK_lt kr (by decide)) (fun y => y)).1]; exact e14
  have l1 : vLs (vnw v 18 9) lm = vLs v lm := rfl
  rw [sX1_way_9, sX1_way_12, sX1_way_13, sX1_way_14, sX1_way_15 (c1.kk kr1 (by decide)), c1.rr kr1 rfl, r71, sX1_way_18 (c1.kk ku1 (by decide)), c1.rr ku1 rfl, r21, sX1_way_21 (c1.kk kl1 (by decide)), v_size c1 kl1, Kt_v, sX1_way_24, sX1_way_25 (c1.kk kr1 (by decide)), c1.ii kr1 rfl, e141, sX1_way_28 (by rw [nw_h]; decide) (by rw [nw_h]; decide), l1, nn]
  refine c_iMethod c1 nw_k (fun h2 c2 => ?_)
  have lr := hK_lt kr (by decide)
  have rne : rd ≠ hN v.1 := by omega
  have fL : Fw (fun _ _ => False) v (vLn (vnw v 18 9) 2) := f1.trans vLn_f
  have kL : hK (vLn (vnw v 18 9) 2).1 (hN v.1) = 18 := vLn_f.kk (v := vnw v 18 9) nw_k (by decide)
  have fLL : Fw (fun _ _ => False) (vnw v 18 9) (vLn (vnw v 18 9) 2) := vLn_f
  have hL := fun j => fLL.ff (a := hN v.1) (k := j) (hK_lt nw_k (by decide)) (fun y => y)
  have kl4 : hK (vLn (vnw v 18 9) 2).1 (hN v.1 + 1) = 4 := vLn_k (v := vnw v 18 9)
  have ll4 : vLs (vLn (vnw v 18 9) 2) (hN v.1 + 1) = [] := vLn_l (v := vnw v 18 9)
  have nL : hN (vLn (vnw v 18 9) 2).1 = hN v.1 + 3 := rfl
  have sL : hS (vLn (vnw v 18 9) 2).1 = hS v.1 + 9 + 3 + 2 := rfl
  have hR0 : ∀ j, hR (vLn (vnw v 18 9) 2).1 (hN v.1) j = none := fun j => by rw [(hL j).2.2]; exact nw_f.1
  have hI0 : ∀ j, hI (vLn (vnw v 18 9) 2).1 (hN v.1) j = 0 := fun j => by rw [(hL j).1]; exact nw_f.2
  have e1 : hN (vnw v 18 9).1 = hN v.1 + 1 := rfl
  rw [e1] at c2
  generalize vLn (vnw v 18 9) 2 = vl at *
  have f2 : Fw (fun _ _ => False) v (vpI (vpI (vpR (vpR vl (hN v.1) 7 (some (hN v.1 + 1))) (hN v.1) 0 (some nm)) (hN v.1) 1 (iI (vLs v lm).length)) (hN v.1) 2 (iI p)) := (((fL.pR (Or.inl (Nat.le_refl _))).pR (Or.inl (Nat.le_refl _))).pI (Or.inl (Nat.le_refl _))).pI (Or.inl (Nat.le_refl _))
  have mc2 : MC (vpI (vpI (vpR (vpR vl (hN v.1) 7 (some (hN v.1 + 1))) (hN v.1) 0 (some nm)) (hN v.1) 1 (iI (vLs v lm).length)) (hN v.1) 2 (iI p)) (hN v.1) nm (hN v.1 + 1) (vLs v lm).length p := by
    refine ⟨kL, ⟨?_, ?_, ?_, ?_⟩, fun j h0 h7 => ?_, fun j h1 h2 => ?_, kl4, ll4⟩
    · rw [vpI_1, hR_putI, vpI_1, hR_putI, vpR_1, hR_putR, if_pos ⟨rfl, rfl⟩]
    · rw [vpI_1, hI_putI, if_neg (fun q => absurd q.2 (by decide)), vpI_1, hI_putI, if_pos ⟨rfl, rfl⟩]
    · rw [vpI_1, hI_putI, if_pos ⟨rfl, rfl⟩]
    · rw [vpI_1, hR_putI, vpI_1, hR_putI, vpR_1, hR_putR, if_neg (fun q => absurd q.2 (by decide)), vpR_1, hR_putR, if_pos ⟨rfl, rfl⟩]
    · rw [vpI_1, hR_putI, vpI_1, hR_putI, vpR_1, hR_putR, if_neg (fun q => h0 q.2), vpR_1, hR_putR, if_neg (fun q => h7 q.2)]
      exact hR0 j
    · rw [vpI_1, hI_putI, if_neg (fun q => h2 q.2), vpI_1, hI_putI, if_neg (fun q => h1 q.2), vpR_1, hI_putR, vpR_1, hI_putR]
      exact hI0 j
  have n2 : hN (vpI (vpI (vpR (vpR vl (hN v.1) 7 (some (hN v.1 + 1))) (hN v.1) 0 (some nm)) (hN v.1) 1 (iI (vLs v lm).length)) (hN v.1) 2 (iI p)).1 = hN vl.1 := rfl
  have s2 : hS (vpI (vpI (vpR (vpR vl (hN v.1) 7 (some (hN v.1 + 1))) (hN v.1) 0 (some nm)) (hN v.1) 1 (iI (vLs v lm).length)) (hN v.1) 2 (iI p)).1 = hS vl.1 := rfl
  generalize (vpI (vpI (vpR (vpR vl (hN v.1) 7 (some (hN v.1 + 1))) (hN v.1) 0 (some nm)) (hN v.1) 1 (iI (vLs v lm).length)) (hN v.1) 2 (iI p)) = v2 at *
  have kr2 := f2.kk kr (by decide)
  rw [Kt_0, sX1_way_31, sX1_way_32, sX1_way_33, sX1_way_34 (c2.kk kr2 (by decide))]
  have c3 := CR_pR (k := 8) (z := some (hN v.1)) c2 kr2 rfl
  have f3 : Fw (fun b k => b = rd ∧ k = 8) v (vpR v2 rd 8 (some (hN v.1))) := (f2.mono (fun _ _ y => y.elim)).pR (Or.inr ⟨rfl, rfl⟩)
  have g3 : Fw (fun b k => b = rd ∧ k = 8) v2 (vpR v2 rd 8 (some (hN v.1))) := Fw.refl.pR (Or.inr ⟨rfl, rfl⟩)
  have lrl : rd ≠ hN v.1 + 1 := by omega
  have mc3 := MC_fw g3 (fun b k y => ⟨by rw [y.1]; exact rne, by rw [y.1]; exact lrl⟩) mc2
  have r83 : hR (vpR v2 rd 8 (some (hN v.1))).1 rd 8 = some (hN v.1) := by rw [vpR_1, hR_putR, if_pos ⟨rfl, rfl⟩]
  have n3 : hN (vpR v2 rd 8 (some (hN v.1))).1 = hN v2.1 := rfl
  have s3 : hS (vpR v2 rd 8 (some (hN v.1))).1 = hS v2.1 := rfl
  generalize (vpR v2 rd 8 (some (hN v.1))) = v3 at *
  generalize (putR h2 rd 8 (some (hN v.1))) = h3 at *
  have kr3 := f3.kk kr (by decide)
  have ku3 := f3.kk ku (by decide)
  have km3 := f3.kk km (by decide)
  have kl3 := f3.kk kl (by decide)
  have kx3 := f3.kk kx (by decide)
  have une : u ≠ rd := fun e => by rw [e, kr] at ku; exact absurd ku (by decide)
  have fu := fun j => f3.ff (k := j) (hK_lt ku (by decide)) (fun y => une y.1)
  have r73 : hR v3.1 rd 7 = some u := by rw [(f3.ff (k := 7) lr (fun y => absurd y.2 (by decide))).2.2]; exact r7
  have e143 : hI v3.1 rd 14 = iI p := by rw [(f3.ff (k := 14) lr (fun y => absurd y.2 (by decide))).1]; exact e14
  have r33 : hR v3.1 u 3 = some mm := by rw [(fu 3).2.2]; exact r3
  have r23 : hR v3.1 u 2 = some lm := by rw [(fu 2).2.2]; exact r2
  have r53 : hR v3.1 u 5 = some lx := by rw [(fu 5).2.2]; exact r5
  have C99 : ∀ {b k : Nat}, hK v.1 b = k → k ≠ 0 → vLs v3 b = vLs v b ∧ vMp v3 b = vMp v b ∧ vCp v3 b = vCp v b ∧ vTx v3 b = vTx v b := fun {b k} e e0 => f3.cc (hK_lt e e0) (fun y => absurd y.2 (by decide))
  have mp3 : vMp v3 mm = vMp v mm := (C99 km (by decide)).2.1
  have tx3 : vTx v3 nm = vTx v nm := (C99 tn.1 (by decide)).2.2.2
  have ls3 : vLs v3 lm = vLs v lm := (C99 kl (by decide)).1
  have cx3 : vCp v3 lx = vCp v lx := (C99 kx (by decide)).2.2.1
  have k1 := f3.kk tn.1 (by decide)
  have ml3 : ML v3 lx L := ML_fw f3 m (fun y => absurd y.2 (by decide)) (fun b k y hk => by rw [y.1, kr]; decide)
  have llx := hK_lt kx (by decide)
  have llm := hK_lt kl (by decide)
  have lmm := hK_lt km (by decide)
  -- behind the look for the name
  have B : ∀ (hb : am_H) (vb : vT), CR hb vb → Fw (fun b k => b = lx ∧ k = 99) v3 vb → ML vb lx (insA L (if vMp v mm (vTx v nm) = none then [] else [(2, (p, -1))])) → RM lx v3 vb 2 3 → Rn (r + 1) 84 66 [some (vR (some rd)), some (vR (some nm)), some (vR (some (hN v.1))), some (vI (if vMp v mm (vTx v nm) = none then 0 else 1))] [] hb Q := by
    intro hb vb cb fb mb rmb
    have nmx : mm ≠ lx := fun e => by rw [e, kx] at km; exact absurd km (by decide)
    have fub := fun {b k : Nat} (e : hK v3.1 b = k) (e0 : k ≠ 0) (j : Nat) (hj : j ≠ 99) => fb.ff (k := j) (hK_lt e e0) (fun y => hj y.2)
    have mpb : vMp vb mm = vMp v mm := by rw [(fb.cc (hK_lt km3 (by decide)) (fun y => nmx y.1)).2.1]; exact mp3
    have nnx : nm ≠ lx := fun e => by have := tn.1; rw [e, kx] at this; exact absurd this (by decide)
    have txb : vTx vb nm = vTx v nm := by rw [(fb.cc (hK_lt k1 (by decide)) (fun y => nnx y.1)).2.2.2]; exact tx3
    have lsb : vLs vb lm = vLs v lm := by rw [(fb.cc (hK_lt kl3 (by decide)) (fun y => nlx y.1)).1]; exact ls3
    refine wy_reg (x := x) cb (fb.kk kr3 (by decide)) (by rw [(fub kr3 (by decide) 7 (by decide)).2.2]; exact r73) (fb.kk ku3 (by decide)) (by rw [(fub ku3 (by decide) 2 (by decide)).2.2]; exact r23) (fb.kk kl3 (by decide)) (by rw [(fub ku3 (by decide) 3 (by decide)).2.2]; exact r33) (fb.kk km3 (by decide)) (fb.kk mc3.1 (by decide)) ⟨fb.kk k1 (by decide), by rw [txb]; exact tn.2.1, by rw [txb]; exact tn.2.2⟩ (by rw [txb, mpb]) (by rw [mpb]; exact sm) (by rw [lsb]; exact len) (fun h' v' c' f l' mp b1 b2 b3 => ?_)
    have kxb := fb.kk kx3 (by decide)
    have nx : ¬ ((lx = lm ∨ lx = mm) ∧ (99 : Nat) = 99) := fun y => by rcases y.1 with e | e; exact nlx e.symm; exact nmx e.symm
    have cpx : vCp v' lx = vCp vb lx := (f.cc (hK_lt kxb (by decide)) nx).2.2.1
    refine q h' v' c' ?_ ?_ ?_ (by rw [l', lsb]) (fun t => by rw [mp t, txb, mpb]) (ML_fw f mb nx (fun b k y hk => by omega)) ?_
    · exact ((f3.mono (fun b k y => Or.inl y)).trans (fb.mono (fun b k y => Or.inr ⟨Or.inr (Or.inr y.1), y.2⟩))).trans (f.mono (fun b k y => Or.inr ⟨by rcases y.1 with e | e; exact Or.inl e; exact Or.inr (Or.inl e), y.2⟩))
    · have krb := fb.kk kr3 (by decide)
      rw [(f.ff (k := 8) (hK_lt krb (by decide)) (fun y => absurd y.2 (by decide))).2.2, (fub kr3 (by decide) 8 (by decide)).2.2]
      exact r83
    · exact MC_fw f (fun b k y => by rcases y.1 with e | e <;> rw [e] <;> exact ⟨by omega, by omega⟩) (MC_fw fb (fun b k y => by rw [y.1]; exact ⟨by omega, by omega⟩) mc3)
    · obtain ⟨g1, g2, g3, g4, g5⟩ := rmb
      have := f.1
      have := f3.1
      exact ⟨by omega, by omega, by omega, by rw [cpx]; omega, by rw [cpx]; omega⟩
  rw [sX1_way_37, sX1_way_38 (c3.kk kr3 (by decide)), c3.rr kr3 rfl, r73, sX1_way_41 (c3.kk ku3 (by decide)), c3.rr ku3 rfl, r33, sX1_way_44, sX1_way_45 (c3.kk km3 (by decide))]
  refine v_mhas c3 km3 (Or.inl k1) (by rw [tx3]; exact tn.2.2.1) (fun h4 c4 => ?_)
  rw [Kt_v, sX1_way_48, sX1_way_49, sX1_way_50, tx3, mp3]
  by_cases nw : vMp v mm (vTx v nm) = none
  · have B' := B h4 v3 c4 Fw.refl
    rw [if_pos nw, if_pos nw] at B'
    rw [if_pos nw, if_pos (by decide)]
    exact B' ml3 ⟨Nat.le_refl _, by omega, Nat.le_refl _, by omega, Nat.le_refl _⟩
  · rw [if_neg nw] at B ⊢
    rw [if_neg (by decide), sX1_way_53, sX1_way_54 (c4.kk kr3 (by decide)), c4.rr kr3 rfl, r73, sX1_way_57, sX1_way_58, sX1_way_59 (c4.kk kr3 (by decide)), c4.ii kr3 rfl, e143, sX1_way_62, sX1_way_63 (c4.kk ku3 (by decide)), i_2, i_m1]
    refine c_mi1 c4 ku3 r53 ml3.1 (by omega) (by omega) (by omega) (by omega) (fun hc vc cc fc mc => ?_)
    obtain ⟨mlc, rmc⟩ := ML_add ml3 mc fc.1
    have B' := B hc vc cc fc
    rw [if_neg nw] at B'
    rw [Kt_0]
    exact B' mlc rmc
end WYO
