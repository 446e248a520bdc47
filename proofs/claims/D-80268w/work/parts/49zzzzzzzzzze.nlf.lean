/-! COMPONENT, 144: a new list in a field of a cell *-/
section NLF
variable {u k r n : Nat} {h : am_H} {v : vT} {Q : am_O → am_H → Prop}
theorem nl_f (c : CR h v) (ku : hK v.1 u = n) (wn : wk n = true) (n0 : n ≠ 0) (q : ∀ h2 v', hK h2 u = n → CR (putR h2 u k (some (hN h))) v' → Fw (fun b j => b = u ∧ j = k) v v' → hR v'.1 u k = some (hN v.1) → hK v'.1 (hN v.1) = 4 → vLs v' (hN v.1) = [] → hN v'.1 = hN v.1 + 1 → hS v'.1 = hS v.1 + 3 → Q (Sum.inl none) h2) : Cl r 76 [vR (some (hN h))] (newC h 4 3) Q := by
  have nn := c.hn
  have lu := hK_lt ku n0
  refine v_nL c (fun h2 c2 => ?_)
  have f1 : Fw (fun b j => b = u ∧ j = k) v (vsL (vbm (vnw v 4 3) (hN v.1 + 1) (hS v.1 + 3)) (hN v.1) [] 0) := (Fw.refl.nw.bm (Nat.le_refl _)).sL (Or.inl (Nat.le_refl _))
  have k4 : hK (vsL (vbm (vnw v 4 3) (hN v.1 + 1) (hS v.1 + 3)) (hN v.1) [] 0).1 (hN v.1) = 4 := by
    rw [vsL_1, vbm_1, hK_bmp (by rw [vnw_1, hN_newC]; omega)]
    exact nw_k
  have kl : vLs (vsL (vbm (vnw v 4 3) (hN v.1 + 1) (hS v.1 + 3)) (hN v.1) [] 0) (hN v.1) = [] := if_pos rfl
  have kn : hN (vsL (vbm (vnw v 4 3) (hN v.1 + 1) (hS v.1 + 3)) (hN v.1) [] 0).1 = hN v.1 + 1 := rfl
  have kS : hS (vsL (vbm (vnw v 4 3) (hN v.1 + 1) (hS v.1 + 3)) (hN v.1) [] 0).1 = hS v.1 + 3 := rfl
  generalize vsL (vbm (vnw v 4 3) (hN v.1 + 1) (hS v.1 + 3)) (hN v.1) [] 0 = v2 at *
  have ku2 := f1.kk ku n0
  rw [nn] at q
  refine q h2 (vpR v2 u k (some (hN v.1))) (c2.kk ku2 n0) (CR_pR c2 ku2 wn) (f1.pR (Or.inr ⟨rfl, rfl⟩)) ?_ k4 kl kn kS
  rw [vpR_1, hR_putR, if_pos ⟨rfl, rfl⟩]
/-- new Walk() -/
theorem c_walk0 {a : Nat} (q : Q (Sum.inl none) h) : Cl r 29 [vR (some a)] h Q := by
  rw [eX5_init, sX5_init_0, sX5_init_1, sX5_init_4]
  exact q
end NLF
