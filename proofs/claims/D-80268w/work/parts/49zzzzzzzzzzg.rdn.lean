/-! COMPONENT, 146: new Reader() (27) *-/
section RDN
variable {rd r : Nat} {h : am_H} {v : vT} {Q : am_O → am_H → Prop}
theorem c_reader0 (c : CR h v) (kr : hK v.1 rd = 2) (q : ∀ h' v', CR h' v' → Fw (fun b _ => b = rd) v v' → RW v' rd (hN v.1) → (hR v'.1 rd 10 = some (hN v.1 + 1) ∧ hR v'.1 rd 11 = some (hN v.1 + 2) ∧ hR v'.1 rd 12 = some (hN v.1 + 3) ∧ hR v'.1 rd 13 = some (hN v.1 + 4) ∧ hR v'.1 rd 17 = some (hN v.1 + 5)) → (∀ i, 1 ≤ i → i ≤ 5 → hK v'.1 (hN v.1 + i) = 4) → hN v'.1 = hN v.1 + 6 → hS v'.1 = hS v.1 + 22 → Q (Sum.inl none) h') : Cl r 27 [vR (some rd)] h Q := by
  have lr := hK_lt kr (by decide)
  have nn := c.hn
  rw [eX1_init, sX1_init_0, sX1_init_1, sX1_init_4, sX1_init_5, sX1_init_8, sX1_init_9 (by rw [nw_h]; decide) (by rw [nw_h]; decide), nn]
  have c1 := CR_nw (m := 3) (n := 7) c rfl
  have f1 : Fw (fun _ _ => False) v (vnw v 3 7) := Fw.refl.nw
  have k1 : hK (vnw v 3 7).1 (hN v.1) = 3 := nw_k
  have n1 : hN (vnw v 3 7).1 = hN v.1 + 1 := rfl
  have s1 : hS (vnw v 3 7).1 = hS v.1 + 7 := rfl
  generalize vnw v 3 7 = v1 at *
  refine c_wrong0 c1 k1 (fun h2 v2 c2 f2 n2 s2 => ?_)
  have kr1 := f1.kk kr (by decide)
  have kr2 := f2.kk kr1 (by decide)
  have kw2 := f2.kk k1 (by decide)
  rw [Kt_0, sX1_init_12 (c2.kk kr2 (by decide))]
  have c3 := CR_pR (k := 0) (z := some (hN v.1)) c2 kr2 rfl
  have f3 : Fw (fun b j => b = rd ∧ j = 0) v2 (vpR v2 rd 0 (some (hN v.1))) := Fw.refl.pR (Or.inr ⟨rfl, rfl⟩)
  have e0 : hR (vpR v2 rd 0 (some (hN v.1))).1 rd 0 = some (hN v.1) := by rw [vpR_1, hR_putR, if_pos ⟨rfl, rfl⟩]
  have n3 : hN (vpR v2 rd 0 (some (hN v.1))).1 = hN v2.1 := rfl
  have s3 : hS (vpR v2 rd 0 (some (hN v.1))).1 = hS v2.1 := rfl
  generalize vpR v2 rd 0 (some (hN v.1)) = v3 at *
  generalize putR h2 rd 0 (some (hN v.1)) = h3 at *
  have kr3 := f3.kk kr2 (by decide)
  rw [sX1_init_15, sX1_init_16, sX1_init_19, sX1_init_20 (by rw [nw_h]; decide) (by rw [nw_h]; decide)]
  refine nl_f (k := 10) c3 kr3 rfl (by decide) (fun h4 v4 x4 c4 f4 e4 k4 _ n4 s4 => ?_)
  have kr4 := f4.kk kr3 (by decide)
  rw [Kt_0, sX1_init_23 x4, sX1_init_26, sX1_init_27, sX1_init_30, sX1_init_31 (by rw [nw_h]; decide) (by rw [nw_h]; decide)]
  refine nl_f (k := 11) c4 kr4 rfl (by decide) (fun h5 v5 x5 c5 f5 e5 k5 _ n5 s5 => ?_)
  have kr5 := f5.kk kr4 (by decide)
  rw [Kt_0, sX1_init_34 x5, sX1_init_37, sX1_init_38, sX1_init_41, sX1_init_42 (by rw [nw_h]; decide) (by rw [nw_h]; decide)]
  refine nl_f (k := 12) c5 kr5 rfl (by decide) (fun h6 v6 x6 c6 f6 e6 k6 _ n6 s6 => ?_)
  have kr6 := f6.kk kr5 (by decide)
  rw [Kt_0, sX1_init_45 x6, sX1_init_48, sX1_init_49, sX1_init_52, sX1_init_53 (by rw [nw_h]; decide) (by rw [nw_h]; decide)]
  refine nl_f (k := 13) c6 kr6 rfl (by decide) (fun h7 v7 x7 c7 f7 e7 k7 _ n7 s7 => ?_)
  have kr7 := f7.kk kr6 (by decide)
  rw [Kt_0, sX1_init_56 x7, sX1_init_59, sX1_init_60, sX1_init_63, sX1_init_64 (by rw [nw_h]; decide) (by rw [nw_h]; decide)]
  refine nl_f (k := 17) c7 kr7 rfl (by decide) (fun h8 v8 x8 c8 f8 e8 k8 _ n8 s8 => ?_)
  have kr8 := f8.kk kr7 (by decide)
  rw [Kt_0, sX1_init_67 x8, sX1_init_70]
  have a3 : hN v3.1 = hN v.1 + 1 := by omega
  have a4 : hN v4.1 = hN v.1 + 2 := by omega
  have a5 : hN v5.1 = hN v.1 + 3 := by omega
  have a6 : hN v6.1 = hN v.1 + 4 := by omega
  have a7 : hN v7.1 = hN v.1 + 5 := by omega
  rw [a3] at e4 k4
  rw [a4] at e5 k5
  rw [a5] at e6 k6
  rw [a6] at e7 k7
  rw [a7] at e8 k8
  have fld : ∀ {va vb : vT} {j i : Nat} (f : Fw (fun b y => b = rd ∧ y = j) va vb), hN v.1 ≤ hN va.1 → i ≠ j → hR vb.1 rd i = hR va.1 rd i := fun f hv hi => (f.ff (Nat.lt_of_lt_of_le lr hv) (fun y => hi y.2)).2.2
  have mm : ∀ {j : Nat} (a k : Nat), (a = rd ∧ k = j) → hN v.1 ≤ a ∨ a = rd := fun a k y => Or.inr y.1
  have F2 : Fw (fun b _ => b = rd) v v2 := (f1.mono (fun _ _ y => y.elim)).tr2 f2 (fun a k y => Or.inl (by rw [y]; exact Nat.le_refl _))
  have F8 := (((((F2.tr2 f3 mm).tr2 f4 mm).tr2 f5 mm).tr2 f6 mm).tr2 f7 mm).tr2 f8 mm
  have g57 := f5.kk k4 (by decide)
  refine q _ v8 c8 F8 ⟨kr8, ?_, ?_⟩ ⟨?_, ?_, ?_, ?_, e8⟩ (fun i i1 i2 => ?_) (by omega) (by omega)
  · rw [fld f8 (by omega) (by decide), fld f7 (by omega) (by decide), fld f6 (by omega) (by decide), fld f5 (by omega) (by decide), fld f4 (by omega) (by decide)]; exact e0
  · exact f8.kk (f7.kk (f6.kk (f5.kk (f4.kk (f3.kk kw2 (by decide)) (by decide)) (by decide)) (by decide)) (by decide)) (by decide)
  · rw [fld f8 (by omega) (by decide), fld f7 (by omega) (by decide), fld f6 (by omega) (by decide), fld f5 (by omega) (by decide)]; exact e4
  · rw [fld f8 (by omega) (by decide), fld f7 (by omega) (by decide), fld f6 (by omega) (by decide)]; exact e5
  · rw [fld f8 (by omega) (by decide), fld f7 (by omega) (by decide)]; exact e6
  · rw [fld f8 (by omega) (by decide)]; exact e7
  · have hi : i = 1 ∨ i = 2 ∨ i = 3 ∨ i = 4 ∨ i = 5 := by omega
    rcases hi with rfl | rfl | rfl | rfl | rfl
    · exact f8.kk (f7.kk (f6.kk (f5.kk k4 (by decide)) (by decide)) (by decide)) (by decide)
    · exact f8.kk (f7.kk (f6.kk k5 (by decide)) (by decide)) (by decide)
    · exact f8.kk (f7.kk k6 (by decide)) (by decide)
    · exact f8.kk k7 (by decide)
    · exact k8
end RDN
