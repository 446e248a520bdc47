/-! COMPONENT, 128: a new unit (28): its lists and maps *-/
section UNI
variable {u k r : Nat} {h : am_H} {v : vT} {Q : am_O → am_H → Prop} {l0 l1 l2 : Option am_V}
theorem un_l (c : CR h v) (ku : hK v.1 u = 5) (q : ∀ h2 v', hK h2 u = 5 → CR (putR h2 u k (some (hN h))) v' → Fw (fun b j => b = u ∧ j = k) v v' → hR v'.1 u k = some (hN v.1) → hK v'.1 (hN v.1) = 4 → vLs v' (hN v.1) = [] → vCp v' (hN v.1) = 0 → hN v'.1 = hN v.1 + 1 → hS v'.1 = hS v.1 + 3 → Q (Sum.inl none) h2) : Cl r 76 [vR (some (hN h))] (newC h 4 3) Q := by
  have nn := c.hn
  have lu := hK_lt ku (by decide)
  refine v_nL c (fun h2 c2 => ?_)
  have f1 : Fw (fun b j => b = u ∧ j = k) v (vsL (vbm (vnw v 4 3) (hN v.1 + 1) (hS v.1 + 3)) (hN v.1) [] 0) := (Fw.refl.nw.bm (Nat.le_refl _)).sL (Or.inl (Nat.le_refl _))
  have k4 : hK (vsL (vbm (vnw v 4 3) (hN v.1 + 1) (hS v.1 + 3)) (hN v.1) [] 0).1 (hN v.1) = 4 := by
    rw [vsL_1, vbm_1, hK_bmp (by rw [vnw_1, hN_newC]; omega)]
    exact nw_k
  have kl : vLs (vsL (vbm (vnw v 4 3) (hN v.1 + 1) (hS v.1 + 3)) (hN v.1) [] 0) (hN v.1) = [] := if_pos rfl
  have kc : vCp (vsL (vbm (vnw v 4 3) (hN v.1 + 1) (hS v.1 + 3)) (hN v.1) [] 0) (hN v.1) = 0 := if_pos rfl
  have kn : hN (vsL (vbm (vnw v 4 3) (hN v.1 + 1) (hS v.1 + 3)) (hN v.1) [] 0).1 = hN v.1 + 1 := rfl
  have kS : hS (vsL (vbm (vnw v 4 3) (hN v.1 + 1) (hS v.1 + 3)) (hN v.1) [] 0).1 = hS v.1 + 3 := rfl
  generalize vsL (vbm (vnw v 4 3) (hN v.1 + 1) (hS v.1 + 3)) (hN v.1) [] 0 = v2 at *
  have ku2 := f1.kk ku (by decide)
  rw [nn] at q
  refine q h2 (vpR v2 u k (some (hN v.1))) (c2.kk ku2 (by decide)) (CR_pR c2 ku2 rfl) (f1.pR (Or.inr ⟨rfl, rfl⟩)) ?_ k4 kl kc kn kS
  rw [vpR_1, hR_putR, if_pos ⟨rfl, rfl⟩]
theorem un_m (c : CR h v) (ku : hK v.1 u = 5) (q : ∀ h2 v', hK h2 u = 5 → CR (putR h2 u k (some (hN h))) v' → Fw (fun b j => b = u ∧ j = k) v v' → hR v'.1 u k = some (hN v.1) → hK v'.1 (hN v.1) = 6 → (∀ t, vMp v' (hN v.1) t = none) → hN v'.1 = hN v.1 + 1 → hS v'.1 = hS v.1 + 8 → Q (Sum.inl none) h2) : Cl r 77 [vR (some (hN h))] (newC h 6 8) Q := by
  have nn := c.hn
  have lu := hK_lt ku (by decide)
  refine v_nM c (fun h2 c2 => ?_)
  have f1 : Fw (fun b j => b = u ∧ j = k) v (vnM (vnw v 6 8) (hN v.1)) := Fw.refl.nw.nM (Or.inl (Nat.le_refl _))
  have k4 : hK (vnM (vnw v 6 8) (hN v.1)).1 (hN v.1) = 6 := nw_k
  have kl : ∀ t, vMp (vnM (vnw v 6 8) (hN v.1)) (hN v.1) t = none := fun t => if_pos rfl
  have kn : hN (vnM (vnw v 6 8) (hN v.1)).1 = hN v.1 + 1 := rfl
  have kS : hS (vnM (vnw v 6 8) (hN v.1)).1 = hS v.1 + 8 := rfl
  generalize vnM (vnw v 6 8) (hN v.1) = v2 at *
  have ku2 := f1.kk ku (by decide)
  rw [nn] at q
  refine q h2 (vpR v2 u k (some (hN v.1))) (c2.kk ku2 (by decide)) (CR_pR c2 ku2 rfl) (f1.pR (Or.inr ⟨rfl, rfl⟩)) ?_ k4 kl kn kS
  rw [vpR_1, hR_putR, if_pos ⟨rfl, rfl⟩]
/-- the cells of a unit, from n on -/
def UN0 (v : vT) (u n : Nat) : Prop := (hK v.1 u = 5 ∧ hR v.1 u 0 = some n ∧ hR v.1 u 1 = some (n + 1) ∧ hR v.1 u 2 = some (n + 2) ∧ hR v.1 u 3 = some (n + 3) ∧ hR v.1 u 4 = some (n + 4) ∧ hR v.1 u 5 = some (n + 5)) ∧
  (hK v.1 n = 4 ∧ hK v.1 (n + 1) = 6 ∧ hK v.1 (n + 2) = 4 ∧ hK v.1 (n + 3) = 6 ∧ hK v.1 (n + 4) = 4 ∧ hK v.1 (n + 5) = 4)
theorem un_a (c : CR h v) (ku : hK v.1 u = 5) (q : ∀ h' v', CR h' v' → Fw (fun b _ => b = u) v v' → UN0 v' u (hN v.1) → (vLs v' (hN v.1) = [] ∧ vLs v' (hN v.1 + 2) = [] ∧ vLs v' (hN v.1 + 4) = [] ∧ vLs v' (hN v.1 + 5) = [] ∧ vCp v' (hN v.1 + 5) = 0) → (∀ t, vMp v' (hN v.1 + 1) t = none ∧ vMp v' (hN v.1 + 3) t = none) → hN v'.1 = hN v.1 + 6 → hS v'.1 = hS v.1 + 28 → Rn r 28 70 [some (vR (some u)), none, none] [] h' Q) : Cl r 28 [vR (some u)] h Q := by
  have lu := hK_lt ku (by decide)
  rw [eX3_init, sX3_init_0, sX3_init_1, sX3_init_4, sX3_init_5, sX3_init_8, sX3_init_9 (by rw [hK_newC, if_pos rfl]; decide) (by rw [hK_newC, if_pos rfl]; decide)]
  refine un_l (k := 0) c ku (fun h1 v1 x1 c1 f1 r1 k1 s1 _ n1 z1 => ?_)
  have ku1 := f1.kk ku (by decide)
  rw [Kt_0, sX3_init_12 x1, sX3_init_15, sX3_init_16, sX3_init_19, sX3_init_20 (by rw [hK_newC, if_pos rfl]; decide) (by rw [hK_newC, if_pos rfl]; decide)]
  refine un_m (k := 1) c1 ku1 (fun h2 v2 x2 c2 f2 r2 k2 s2 n2 z2 => ?_)
  have ku2 := f2.kk ku1 (by decide)
  rw [Kt_0, sX3_init_23 x2, sX3_init_26, sX3_init_27, sX3_init_30, sX3_init_31 (by rw [hK_newC, if_pos rfl]; decide) (by rw [hK_newC, if_pos rfl]; decide)]
  refine un_l (k := 2) c2 ku2 (fun h3 v3 x3 c3 f3 r3 k3 s3 _ n3 z3 => ?_)
  have ku3 := f3.kk ku2 (by decide)
  rw [Kt_0, sX3_init_34 x3, sX3_init_37, sX3_init_38, sX3_init_41, sX3_init_42 (by rw [hK_newC, if_pos rfl]; decide) (by rw [hK_newC, if_pos rfl]; decide)]
  refine un_m (k := 3) c3 ku3 (fun h4 v4 x4 c4 f4 r4 k4 s4 n4 z4 => ?_)
  have ku4 := f4.kk ku3 (by decide)
  rw [Kt_0, sX3_init_45 x4, sX3_init_48, sX3_init_49, sX3_init_52, sX3_init_53 (by rw [hK_newC, if_pos rfl]; decide) (by rw [hK_newC, if_pos rfl]; decide)]
  refine un_l (k := 4) c4 ku4 (fun h5 v5 x5 c5 f5 r5 k5 s5 _ n5 z5 => ?_)
  have ku5 := f5.kk ku4 (by decide)
  rw [Kt_0, sX3_init_56 x5, sX3_init_59, sX3_init_60, sX3_init_63, sX3_init_64 (by rw [hK_newC, if_pos rfl]; decide) (by rw [hK_newC, if_pos rfl]; decide)]
  refine un_l (k := 5) c5 ku5 (fun h6 v6 x6 c6 f6 r6 k6 s6 p6 n6 z6 => ?_)
  have ku6 := f6.kk ku5 (by decide)
  rw [Kt_0, sX3_init_67 x6]
  have g12 : Fw (fun b _ => b = u) v1 v2 := f2.mono (fun _ _ y => y.1)
  have g23 : Fw (fun b _ => b = u) v2 v3 := f3.mono (fun _ _ y => y.1)
  have g34 : Fw (fun b _ => b = u) v3 v4 := f4.mono (fun _ _ y => y.1)
  have g45 : Fw (fun b _ => b = u) v4 v5 := f5.mono (fun _ _ y => y.1)
  have g56 : Fw (fun b _ => b = u) v5 v6 := f6.mono (fun _ _ y => y.1)
  have g46 := g45.trans g56
  have g36 := g34.trans g46
  have g26 := g23.trans g36
  have g16 := g12.trans g26
  have e1 : hN v1.1 = hN v.1 + 1 := n1
  have e2 : hN v2.1 = hN v.1 + 2 := by omega
  have e3 : hN v3.1 = hN v.1 + 3 := by omega
  have e4 : hN v4.1 = hN v.1 + 4 := by omega
  have e5 : hN v5.1 = hN v.1 + 5 := by omega
  rw [e1] at r2 k2 s2
  rw [e2] at r3 k3 s3
  rw [e3] at r4 k4 s4
  rw [e4] at r5 k5 s5
  rw [e5] at r6 k6 s6 p6
  have fld : ∀ {va vb : vT} {j i : Nat} (f : Fw (fun b y => b = u ∧ y = j) va vb), hN v.1 ≤ hN va.1 → i ≠ j → hR vb.1 u i = hR va.1 u i := fun f hv hi => (f.ff (Nat.lt_of_lt_of_le lu hv) (fun y => hi y.2)).2.2
  have q1 : hR v6.1 u 0 = some (hN v.1) := by rw [fld f6 (by omega) (by decide), fld f5 (by omega) (by decide), fld f4 (by omega) (by decide), fld f3 (by omega) (by decide), fld f2 (by omega) (by decide)]; exact r1
  have q2 : hR v6.1 u 1 = some (hN v.1 + 1) := by rw [fld f6 (by omega) (by decide), fld f5 (by omega) (by decide), fld f4 (by omega) (by decide), fld f3 (by omega) (by decide)]; exact r2
  have q3 : hR v6.1 u 2 = some (hN v.1 + 2) := by rw [fld f6 (by omega) (by decide), fld f5 (by omega) (by decide), fld f4 (by omega) (by decide)]; exact r3
  have q4 : hR v6.1 u 3 = some (hN v.1 + 3) := by rw [fld f6 (by omega) (by decide), fld f5 (by omega) (by decide)]; exact r4
  have q5 : hR v6.1 u 4 = some (hN v.1 + 4) := by rw [fld f6 (by omega) (by decide)]; exact r5
  refine q _ v6 c6 ((f1.mono (fun _ _ y => y.1)).trans g16) ⟨⟨ku6, q1, q2, q3, q4, q5, r6⟩, g16.kk k1 (by decide), g26.kk k2 (by decide), g36.kk k3 (by decide), g46.kk k4 (by decide), g56.kk k5 (by decide), k6⟩ ⟨?_, ?_, ?_, s6, p6⟩ (fun t => ⟨?_, ?_⟩) (by omega) (by omega)
  · rw [(g16.cc (by omega) (by omega)).1]; exact s1
  · rw [(g36.cc (by omega) (by omega)).1]; exact s3
  · rw [(g56.cc (by omega) (by omega)).1]; exact s5
  · rw [(g26.cc (by omega) (by omega)).2.1]; exact s2 t
  · rw [(g46.cc (by omega) (by omega)).2.1]; exact s4 t
end UNI
