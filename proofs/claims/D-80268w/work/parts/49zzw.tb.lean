/-! JDK: maps, 16: treeifyBin *-/
/-- new tree nodes for the nodes ys -/
def NB (h g : am_H) (ys : List Nat) : Prop :=
  hN g = hN h + ys.length ∧ hS g = hS h + 11 * ys.length ∧ (∀ k, hE g k = hE h k) ∧ (∀ b, b < hN h → hK g b = hK h b ∧ hL g b = hL h b ∧ ∀ k, hI g b k = hI h b k ∧ hJ g b k = hJ h b k ∧ hR g b k = hR h b k) ∧
  (∀ i, i < ys.length → hK g (hN h + i) = 13 ∧ hI g (hN h + i) 0 = hI h (ys.getD i 0) 0 ∧ hR g (hN h + i) 1 = hR h (ys.getD i 0) 1 ∧ hR g (hN h + i) 2 = hR h (ys.getD i 0) 2 ∧ hR g (hN h + i) 3 = (if i + 1 < ys.length then some (hN h + i + 1) else none) ∧ hR g (hN h + i) 7 = (if i = 0 then none else some (hN h + i - 1)))
section TBL
variable {g0 : Nat → Nat} {h g : am_H} {v : vT} {r m t n x ix : Nat} {NS : List Nat} {Q : am_O → am_H → Prop} {l2 l3 : Option am_V}
theorem nd_repl {a z : Option Nat} {hs : Int32} (km : hK g m = 6) (kx : 12 ≤ hK g x) (kx2 : hK g x ≤ 13) (e0 : hI g x 0 = hs) (e1 : hR g x 1 = a) (e2 : hR g x 2 = z) : Cl r 262 [vR (some m), vR (some x), vR none] g Q ↔ Q (Sum.inl (some (vR (some (hN g))))) (ndNew g 13 11 hs a z none) := by
  have lx : x < hN g := hK_lt (c := hK g x) rfl (by omega)
  have k0 : hK (newC g 13 11) (hN g) = 13 := by rw [hK_newC, if_pos rfl]
  have kx' : hK (newC g 13 11) x = hK g x := by rw [hK_newC, if_neg (by omega)]
  have i0 : hI (newC g 13 11) x 0 = hs := by rw [hI_newC, if_neg (by omega)]; exact e0
  have i1 : hR (newC g 13 11) x 1 = a := by rw [hR_newC, if_neg (by omega)]; exact e1
  have i2 : hR (newC g 13 11) x 2 = z := by rw [hR_newC, if_neg (by omega)]; exact e2
  have k1 : hK (putI (newC g 13 11) (hN g) 0 hs) (hN g) = 13 := k0
  have k2 : hK (putR (putI (newC g 13 11) (hN g) 0 hs) (hN g) 1 a) (hN g) = 13 := k0
  have k3 : hK (putR (putR (putI (newC g 13 11) (hN g) 0 hs) (hN g) 1 a) (hN g) 2 z) (hN g) = 13 := k0
  rw [eJ7_replacementTreeNode, sJ7_replacementTreeNode_0, sJ7_replacementTreeNode_3, sJ7_replacementTreeNode_4, sJ7_replacementTreeNode_5 (by omega) (by omega), i0, sJ7_replacementTreeNode_8, sJ7_replacementTreeNode_9 (by omega) (by omega), i1, sJ7_replacementTreeNode_12, sJ7_replacementTreeNode_13 (by omega) (by omega), i2, sJ7_replacementTreeNode_16, sJ7_replacementTreeNode_17 (by omega) (by omega), eJ21_init, sJ21_init_0, sJ21_init_1, sJ21_init_2, sJ21_init_3, sJ21_init_4, sJ21_init_6 (by omega) (by omega), eJ20_init, sJ20_init_0, sJ20_init_1, sJ20_init_2, sJ20_init_3, sJ20_init_4, sJ20_init_6 (by omega) (by omega), eJ19_init, sJ19_init_0, sJ19_init_1, sJ19_init_4, sJ19_init_5, sJ19_init_6 (by omega) (by omega), sJ19_init_9, sJ19_init_10, sJ19_init_11 (by omega) (by omega), sJ19_init_14, sJ19_init_15, sJ19_init_16 (by omega) (by omega), sJ19_init_19, sJ19_init_20, sJ19_init_22 (by omega) (by omega), sJ19_init_25, Kt_0, sJ20_init_9, Kt_0, sJ21_init_9, Kt_0, sJ7_replacementTreeNode_20]
  rfl
theorem getD_sn {ys : List Nat} {x i : Nat} (hi : i < ys.length + 1) : (ys ++ [x]).getD i 0 = if i < ys.length then ys.getD i 0 else x := by
  rw [List.getD_eq_getElem?_getD]
  split
  · rename_i q
    rw [List.getElem?_append_left q, List.getD_eq_getElem?_getD]
  · rename_i q
    have : i = ys.length := by omega
    rw [List.getElem?_append_right (by omega), this, Nat.sub_self]
    rfl
theorem NB_step {ys : List Nat} (b : NB h g ys) (lx : x < hN h) : NB h (if ys.length = 0 then ndNew g 13 11 (hI h x 0) (hR h x 1) (hR h x 2) none else putR (putR (ndNew g 13 11 (hI h x 0) (hR h x 1) (hR h x 2) none) (hN g) 7 (some (hN h + ys.length - 1))) (hN h + ys.length - 1) 3 (some (hN g))) (ys ++ [x]) := by
  obtain ⟨b1, b2, b3, b4, b5⟩ := b
  have len : (ys ++ [x]).length = ys.length + 1 := by simp
  have nd : ∀ b, b < hN g → hK (ndNew g 13 11 (hI h x 0) (hR h x 1) (hR h x 2) none) b = hK g b ∧ hL (ndNew g 13 11 (hI h x 0) (hR h x 1) (hR h x 2) none) b = hL g b ∧ ∀ k, hI (ndNew g 13 11 (hI h x 0) (hR h x 1) (hR h x 2) none) b k = hI g b k ∧ hJ (ndNew g 13 11 (hI h x 0) (hR h x 1) (hR h x 2) none) b k = hJ g b k ∧ hR (ndNew g 13 11 (hI h x 0) (hR h x 1) (hR h x 2) none) b k = hR g b k := fun b hb => ⟨hK_nd (by omega), hL_nd (by omega), fun k => ⟨hI_nd (by omega), hJ_nd (by omega), hR_nd (by omega)⟩⟩
  have kN : hK (ndNew g 13 11 (hI h x 0) (hR h x 1) (hR h x 2) none) (hN g) = 13 := hK_ndn
  have iN : hI (ndNew g 13 11 (hI h x 0) (hR h x 1) (hR h x 2) none) (hN g) 0 = hI h x 0 := hI_ndn
  have rN : ∀ k, hR (ndNew g 13 11 (hI h x 0) (hR h x 1) (hR h x 2) none) (hN g) k = if k = 3 then none else if k = 2 then hR h x 2 else if k = 1 then hR h x 1 else none := fun k => hR_ndn
  have sN : hN (ndNew g 13 11 (hI h x 0) (hR h x 1) (hR h x 2) none) = hN g + 1 := rfl
  have sS : hS (ndNew g 13 11 (hI h x 0) (hR h x 1) (hR h x 2) none) = hS g + 11 := rfl
  have sE : ∀ k, hE (ndNew g 13 11 (hI h x 0) (hR h x 1) (hR h x 2) none) k = hE g k := fun _ => rfl
  generalize ndNew g 13 11 (hI h x 0) (hR h x 1) (hR h x 2) none = g1 at *
  by_cases p : ys.length = 0
  · rw [if_pos p]
    refine ⟨by omega, by omega, fun k => (sE k).trans (b3 k), fun b hb => ?_, fun i hi => ?_⟩
    · obtain ⟨y1, y2, y3⟩ := nd b (by omega)
      obtain ⟨z1, z2, z3⟩ := b4 b hb
      exact ⟨y1.trans z1, y2.trans z2, fun k => ⟨(y3 k).1.trans (z3 k).1, (y3 k).2.1.trans (z3 k).2.1, (y3 k).2.2.trans (z3 k).2.2⟩⟩
    · rw [len] at hi
      have e : i = 0 := by omega
      subst e
      rw [getD_sn (by omega), if_neg (by omega), show hN h + 0 = hN g by omega, len, if_neg (by omega), if_pos rfl]
      exact ⟨kN, iN, by rw [rN]; rfl, by rw [rN]; rfl, by rw [rN]; rfl, by rw [rN]; rfl⟩
  · rw [if_neg p]
    have q : hN h + ys.length - 1 ≠ hN g := by omega
    refine ⟨by show hN g1 = _; omega, by show hS g1 = _; omega, fun k => (sE k).trans (b3 k), fun b hb => ?_, fun i hi => ?_⟩
    · obtain ⟨y1, y2, y3⟩ := nd b (by omega)
      obtain ⟨z1, z2, z3⟩ := b4 b hb
      refine ⟨y1.trans z1, y2.trans z2, fun k => ⟨(y3 k).1.trans (z3 k).1, (y3 k).2.1.trans (z3 k).2.1, ?_⟩⟩
      rw [hR_putR, if_neg (fun w => by have := w.1; omega), hR_putR, if_neg (fun w => by have := w.1; omega)]
      exact (y3 k).2.2.trans (z3 k).2.2
    · rw [len] at hi
      rw [getD_sn (by omega), len]
      by_cases e : i < ys.length
      · rw [if_pos e, if_pos (by omega)]
        obtain ⟨y1, y2, y3⟩ := nd (hN h + i) (by omega)
        obtain ⟨z1, z2, z3, z4, z5, z6⟩ := b5 i e
        refine ⟨y1.trans z1, (y3 0).1.trans z2, ?_, ?_, ?_, ?_⟩
        · rw [hR_putR, if_neg (fun w => absurd w.2 (by decide)), hR_putR, if_neg (fun w => absurd w.2 (by decide))]
          exact (y3 1).2.2.trans z3
        · rw [hR_putR, if_neg (fun w => absurd w.2 (by decide)), hR_putR, if_neg (fun w => absurd w.2 (by decide))]
          exact (y3 2).2.2.trans z4
        · rw [hR_putR]
          by_cases e2 : i + 1 = ys.length
          · rw [if_pos ⟨by omega, rfl⟩]
            congr 1
            omega
          · rw [if_neg (fun w => by have := w.1; omega), hR_putR, if_neg (fun w => absurd w.2 (by decide)), (y3 3).2.2, z5, if_pos (by omega)]
        · rw [hR_putR, if_neg (fun w => absurd w.2 (by decide)), hR_putR, if_neg (fun w => by have := w.1; omega)]
          exact (y3 7).2.2.trans z6
      · have e2 : i = ys.length := by omega
        subst e2
        rw [if_neg e, if_neg (by omega), if_neg p, show hN h + ys.length = hN g by omega]
        refine ⟨kN, iN, ?_, ?_, ?_, ?_⟩
        · rw [hR_putR, if_neg (fun w => by have := w.1; omega), hR_putR, if_neg (fun w => absurd w.2 (by decide)), rN]; rfl
        · rw [hR_putR, if_neg (fun w => by have := w.1; omega), hR_putR, if_neg (fun w => absurd w.2 (by decide)), rN]; rfl
        · rw [hR_putR, if_neg (fun w => by have := w.1; omega), hR_putR, if_neg (fun w => absurd w.2 (by decide)), rN]; rfl
        · rw [hR_putR, if_neg (fun w => by have := w.1; omega), hR_putR, if_pos ⟨rfl, rfl⟩]
theorem tb_loop (km : hK h m = 6) (lm : m < hN h) {zs : List Nat}
    (K2 : ∀ (g : am_H) (l8 : Option am_V), NB h g zs → Rn r 209 93 [some (vR (some m)), some (vR (some t)), l2, l3, some (vI (iI ix)), some (vR none), some (vR (some (hN h))), some (vR (some (hN h + zs.length - 1))), l8] [] g Q) :
    ∀ (rs : List Nat) (x : Nat) (g : am_H) (ys : List Nat) (l8 : Option am_V), chn h (some x) (x :: rs) → (∀ y, y ∈ x :: rs → 12 ≤ hK h y ∧ hK h y ≤ 13) → NB h g ys → ys ++ x :: rs = zs →
      Rn r 209 43 [some (vR (some m)), some (vR (some t)), l2, l3, some (vI (iI ix)), some (vR (some x)), some (vR (if ys.length = 0 then none else some (hN h))), some (vR (if ys.length = 0 then none else some (hN h + ys.length - 1))), l8] [] g Q := by
  intro rs
  induction rs with
  | nil =>
    intro x g ys l8 ch k nb ez
    have kx := k x (List.mem_cons_self ..)
    have lx : x < hN h := hK_lt (c := hK h x) rfl (by omega)
    have st := NB_step nb lx
    obtain ⟨b1, b2, b3, b4, b5⟩ := nb
    have ox := b4 x lx
    have nx : hR h x 3 = none := ch.2
    have kxg : hK g x = hK h x := ox.1
    have len : (ys ++ [x]).length = ys.length + 1 := by simp
    rw [sJ7_treeifyBin_43, sJ7_treeifyBin_44, sJ7_treeifyBin_46, sJ7_treeifyBin_47 (by rw [(b4 m lm).1]; exact km), nd_repl (hs := hI h x 0) (a := hR h x 1) (z := hR h x 2) (by rw [(b4 m lm).1]; exact km) (by omega) (by omega) (ox.2.2 0).1 (ox.2.2 1).2.2 (ox.2.2 2).2.2, Kt_v, sJ7_treeifyBin_50, sJ7_treeifyBin_52, sJ7_treeifyBin_54]
    have kx1 : ∀ b, b ≠ hN g → hK (ndNew g 13 11 (hI h x 0) (hR h x 1) (hR h x 2) none) b = hK g b := fun b q => hK_nd q
    have kN1 : hK (ndNew g 13 11 (hI h x 0) (hR h x 1) (hR h x 2) none) (hN g) = 13 := hK_ndn
    have r3 : hR (ndNew g 13 11 (hI h x 0) (hR h x 1) (hR h x 2) none) x 3 = none := by rw [hR_nd (by omega), (ox.2.2 3).2.2]; exact nx
    rw [← ez] at K2
    have K3 := K2 _ (some (vR (some (hN g)))) st
    rw [len] at K3
    by_cases p : ys.length = 0
    · rw [if_pos p, if_neg (fun w => w rfl), sJ7_treeifyBin_57, sJ7_treeifyBin_59, sJ7_treeifyBin_61, sJ7_treeifyBin_78, sJ7_treeifyBin_80, sJ7_treeifyBin_82, sJ7_treeifyBin_84 (by rw [kx1 x (by omega)]; omega) (by rw [kx1 x (by omega)]; omega), r3, sJ7_treeifyBin_87, sJ7_treeifyBin_88, sJ7_treeifyBin_90, if_neg (fun w => w rfl)]
      rw [if_pos p] at K3
      rw [show hN h + (ys.length + 1) - 1 = hN g by omega, show hN h = hN g by omega] at K3
      exact K3
    · have kt : hK g (hN h + ys.length - 1) = 13 := by
        have := (b5 (ys.length - 1) (by omega)).1
        rw [show hN h + (ys.length - 1) = hN h + ys.length - 1 by omega] at this
        exact this
      rw [if_neg p, if_neg p, if_pos (by simp), sJ7_treeifyBin_64, sJ7_treeifyBin_66, sJ7_treeifyBin_68 kN1, sJ7_treeifyBin_71, sJ7_treeifyBin_73, sJ7_treeifyBin_75 (by rw [hK_putR, kx1 _ (by omega)]; exact kt), sJ7_treeifyBin_78, sJ7_treeifyBin_80, sJ7_treeifyBin_82, sJ7_treeifyBin_84 (by rw [hK_putR, hK_putR, kx1 x (by omega)]; omega) (by rw [hK_putR, hK_putR, kx1 x (by omega)]; omega), hR_putR, if_neg (fun w => by have := w.1; omega), hR_putR, if_neg (fun w => by have := w.1; omega), r3, sJ7_treeifyBin_87, sJ7_treeifyBin_88, sJ7_treeifyBin_90, if_neg (fun w => w rfl)]
      rw [if_neg p] at K3
      rw [show hN h + (ys.length + 1) - 1 = hN g by omega] at K3
      exact K3
  | cons x2 l ih =>
    intro x g ys l8 ch k nb ez
    have kx := k x (List.mem_cons_self ..)
    have lx : x < hN h := hK_lt (c := hK h x) rfl (by omega)
    have st := NB_step nb lx
    obtain ⟨b1, b2, b3, b4, b5⟩ := nb
    have ox := b4 x lx
    have nx : hR h x 3 = some x2 := ch.2.1
    have kxg : hK g x = hK h x := ox.1
    have len : (ys ++ [x]).length = ys.length + 1 := by simp
    rw [sJ7_treeifyBin_43, sJ7_treeifyBin_44, sJ7_treeifyBin_46, sJ7_treeifyBin_47 (by rw [(b4 m lm).1]; exact km), nd_repl (hs := hI h x 0) (a := hR h x 1) (z := hR h x 2) (by rw [(b4 m lm).1]; exact km) (by omega) (by omega) (ox.2.2 0).1 (ox.2.2 1).2.2 (ox.2.2 2).2.2, Kt_v, sJ7_treeifyBin_50, sJ7_treeifyBin_52, sJ7_treeifyBin_54]
    have kx1 : ∀ b, b ≠ hN g → hK (ndNew g 13 11 (hI h x 0) (hR h x 1) (hR h x 2) none) b = hK g b := fun b q => hK_nd q
    have kN1 : hK (ndNew g 13 11 (hI h x 0) (hR h x 1) (hR h x 2) none) (hN g) = 13 := hK_ndn
    have r3 : hR (ndNew g 13 11 (hI h x 0) (hR h x 1) (hR h x 2) none) x 3 = some x2 := by rw [hR_nd (by omega), (ox.2.2 3).2.2]; exact nx
    have go := ih x2 _ (ys ++ [x]) (some (vR (some (hN g)))) ⟨rfl, ch.2.2⟩ (fun y hy => k y (List.mem_cons_of_mem _ hy)) st (by rw [← ez, List.append_assoc]; rfl)
    rw [len, if_neg (by omega), if_neg (by omega), show hN h + (ys.length + 1) - 1 = hN g by omega] at go
    by_cases p : ys.length = 0
    · rw [if_pos p, if_neg (fun w => w rfl), sJ7_treeifyBin_57, sJ7_treeifyBin_59, sJ7_treeifyBin_61, sJ7_treeifyBin_78, sJ7_treeifyBin_80, sJ7_treeifyBin_82, sJ7_treeifyBin_84 (by rw [kx1 x (by omega)]; omega) (by rw [kx1 x (by omega)]; omega), r3, sJ7_treeifyBin_87, sJ7_treeifyBin_88, sJ7_treeifyBin_90, if_pos (by simp)]
      rw [if_pos p, show hN h = hN g by omega] at go
      exact go
    · have kt : hK g (hN h + ys.length - 1) = 13 := by
        have := (b5 (ys.length - 1) (by omega)).1
        rw [show hN h + (ys.length - 1) = hN h + ys.length - 1 by omega] at this
        exact this
      rw [if_neg p, if_neg p, if_pos (by simp), sJ7_treeifyBin_64, sJ7_treeifyBin_66, sJ7_treeifyBin_68 kN1, sJ7_treeifyBin_71, sJ7_treeifyBin_73, sJ7_treeifyBin_75 (by rw [hK_putR, kx1 _ (by omega)]; exact kt), sJ7_treeifyBin_78, sJ7_treeifyBin_80, sJ7_treeifyBin_82, sJ7_treeifyBin_84 (by rw [hK_putR, hK_putR, kx1 x (by omega)]; omega) (by rw [hK_putR, hK_putR, kx1 x (by omega)]; omega), hR_putR, if_neg (fun w => by have := w.1; omega), hR_putR, if_neg (fun w => by have := w.1; omega), r3, sJ7_treeifyBin_87, sJ7_treeifyBin_88, sJ7_treeifyBin_90, if_pos (by simp)]
      rw [if_neg p] at go
      exact go
end TBL
