/-! THE VIEW, 3: changes of a view *-/
def bmp (h : am_H) (n s : Nat) : am_H := ((n, (s, h.1.2.2)), (fun b => if b < h.1.1 then h.2.1.1 b else 0, h.2.1.2), h.2.2)
def vpI (v : vT) (a k : Nat) (x : Int32) : vT := (putI v.1 a k x, v.2)
def vpJ (v : vT) (a k : Nat) (x : Int64) : vT := (putJ v.1 a k x, v.2)
def vpR (v : vT) (a k : Nat) (x : Option Nat) : vT := (putR v.1 a k x, v.2)
def vnw (v : vT) (c n : Nat) : vT := (newC v.1 c n, v.2)
def vbm (v : vT) (n s : Nat) : vT := (bmp v.1 n s, v.2)
def vsL (v : vT) (a : Nat) (L : List (Option Nat)) (c : Nat) : vT := (v.1, (fun b => if b = a then L else v.2.1 b, (v.2.2.1, (v.2.2.2.1, fun b => if b = a then c else v.2.2.2.2 b))))
def vsT (v : vT) (a : Nat) (T : List Int32) : vT := (v.1, (v.2.1, (fun b => if b = a then T else v.2.2.1 b, v.2.2.2)))
def vsM (v : vT) (m : Nat) (s : List Int32) (x : Nat) : vT := (v.1, (v.2.1, (v.2.2.1, (fun b t => if b = m ∧ t = s then some x else v.2.2.2.1 b t, v.2.2.2.2))))
def vnM (v : vT) (m : Nat) : vT := (v.1, (v.2.1, (v.2.2.1, (fun b t => if b = m then none else v.2.2.2.1 b t, v.2.2.2.2))))
section VP
variable {h : am_H} {v : vT} {a b k j c n s l m : Nat} {x : Int32} {y : Int64} {z : Option Nat} {L : List (Option Nat)} {T t : List Int32}
theorem hN_bmp : hN (bmp h n s) = n := rfl
theorem hS_bmp : hS (bmp h n s) = s := rfl
theorem hE_bmp : hE (bmp h n s) k = hE h k := rfl
theorem hL_bmp : hL (bmp h n s) b = hL h b := rfl
theorem hI_bmp : hI (bmp h n s) b k = hI h b k := rfl
theorem hJ_bmp : hJ (bmp h n s) b k = hJ h b k := rfl
theorem hR_bmp : hR (bmp h n s) b k = hR h b k := rfl
theorem hK_bmp (hn : hN h ≤ n) : hK (bmp h n s) b = hK h b := by
  show (if b < n then (if b < h.1.1 then h.2.1.1 b else 0) else 0) = if b < h.1.1 then h.2.1.1 b else 0
  have : hN h = h.1.1 := rfl
  by_cases h1 : b < h.1.1
  · rw [if_pos (by omega)]
  · rw [if_neg h1]
    split <;> rfl
theorem vpI_1 : (vpI v a k x).1 = putI v.1 a k x := rfl
theorem vpJ_1 : (vpJ v a k y).1 = putJ v.1 a k y := rfl
theorem vpR_1 : (vpR v a k z).1 = putR v.1 a k z := rfl
theorem vnw_1 : (vnw v c n).1 = newC v.1 c n := rfl
theorem vbm_1 : (vbm v n s).1 = bmp v.1 n s := rfl
theorem vsL_1 : (vsL v a L c).1 = v.1 := rfl
theorem vsT_1 : (vsT v a T).1 = v.1 := rfl
theorem vsM_1 : (vsM v m T b).1 = v.1 := rfl
theorem vnM_1 : (vnM v m).1 = v.1 := rfl
theorem vLs_pI : vLs (vpI v a k x) b = vLs v b := rfl
theorem vLs_pJ : vLs (vpJ v a k y) b = vLs v b := rfl
theorem vLs_pR : vLs (vpR v a k z) b = vLs v b := rfl
theorem vLs_nw : vLs (vnw v c n) b = vLs v b := rfl
theorem vLs_bm : vLs (vbm v n s) b = vLs v b := rfl
theorem vLs_sL : vLs (vsL v a L c) b = if b = a then L else vLs v b := rfl
theorem vLs_sT : vLs (vsT v a T) b = vLs v b := rfl
theorem vLs_sM : vLs (vsM v m T l) b = vLs v b := rfl
theorem vLs_nM : vLs (vnM v m) b = vLs v b := rfl
theorem vTx_pI : vTx (vpI v a k x) b = vTx v b := rfl
theorem vTx_pJ : vTx (vpJ v a k y) b = vTx v b := rfl
theorem vTx_pR : vTx (vpR v a k z) b = vTx v b := rfl
theorem vTx_nw : vTx (vnw v c n) b = vTx v b := rfl
theorem vTx_bm : vTx (vbm v n s) b = vTx v b := rfl
theorem vTx_sL : vTx (vsL v a L c) b = vTx v b := rfl
theorem vTx_sT : vTx (vsT v a T) b = if b = a then T else vTx v b := rfl
theorem vTx_sM : vTx (vsM v m T l) b = vTx v b := rfl
theorem vTx_nM : vTx (vnM v m) b = vTx v b := rfl
theorem vMp_pI : vMp (vpI v a k x) b = vMp v b := rfl
theorem vMp_pJ : vMp (vpJ v a k y) b = vMp v b := rfl
theorem vMp_pR : vMp (vpR v a k z) b = vMp v b := rfl
theorem vMp_nw : vMp (vnw v c n) b = vMp v b := rfl
theorem vMp_bm : vMp (vbm v n s) b = vMp v b := rfl
theorem vMp_sL : vMp (vsL v a L c) b = vMp v b := rfl
theorem vMp_sT : vMp (vsT v a T) b = vMp v b := rfl
theorem vMp_sM : vMp (vsM v m T l) b t = if b = m ∧ t = T then some l else vMp v b t := rfl
theorem vMp_nM : vMp (vnM v m) b t = if b = m then none else vMp v b t := rfl
theorem vCp_pI : vCp (vpI v a k x) b = vCp v b := rfl
theorem vCp_pJ : vCp (vpJ v a k y) b = vCp v b := rfl
theorem vCp_pR : vCp (vpR v a k z) b = vCp v b := rfl
theorem vCp_nw : vCp (vnw v c n) b = vCp v b := rfl
theorem vCp_bm : vCp (vbm v n s) b = vCp v b := rfl
theorem vCp_sL : vCp (vsL v a L c) b = if b = a then c else vCp v b := rfl
theorem vCp_sT : vCp (vsT v a T) b = vCp v b := rfl
theorem vCp_sM : vCp (vsM v m T l) b = vCp v b := rfl
theorem vCp_nM : vCp (vnM v m) b = vCp v b := rfl
end VP
/-- a plain cell that may be written -/
def wk (c : Nat) : Bool := match c with
  | 0 => false
  | 4 => false
  | 6 => false
  | 9 => false
  | 10 => false
  | 11 => false
  | 16 => false
  | 23 => false
  | 45 => false
  | 47 => false
  | 49 => false
  | _ => true
theorem wk_all {c : Nat} (e : wk c = true) : c ≠ 0 ∧ ¬ opq c ∧ ¬ shr c ∧ c ≠ 9 ∧ c ≠ 23 := by
  unfold opq shr
  refine ⟨?_, ?_, ?_, ?_, ?_⟩
  · rintro rfl; cases e
  · rintro (rfl | rfl | rfl | rfl | rfl) <;> cases e
  · rintro (rfl | rfl | rfl) <;> cases e
  · rintro rfl; cases e
  · rintro rfl; cases e
section VQ
variable {g : Nat → Nat} {h : am_H} {v : vT} {a b k j c n s l m : Nat} {x : Int32} {y : Int64} {z : Option Nat} {L : List (Option Nat)} {T t : List Int32}
theorem VO_0 (e : hK v.1 a = 0) : VO g h v a := by
  refine ⟨fun q => absurd e q, fun q => absurd e q, fun q => ?_, fun q => ?_, fun q => ?_, fun q => ?_⟩ <;> omega
theorem CR.lt (c : CR h v) (e : hK v.1 a ≠ 0) : a < hN h := by
  obtain ⟨g, c1, _⟩ := c
  rw [← c1]
  exact hK_lt rfl e
theorem CR.kd (c : CR h v) (e : hK v.1 a ≠ 0) : hK h a = hK v.1 a := by
  have l := c.lt e
  obtain ⟨g, c1, c2, c3, c4, c5⟩ := c
  exact ((c5 a l).1 e).2
theorem CR.kk (c : CR h v) (e : hK v.1 a = n) (hn : n ≠ 0) : hK h a = n := by
  rw [c.kd (by rw [e]; exact hn), e]
theorem CR.hn (c : CR h v) : hN h = hN v.1 := by
  obtain ⟨g, c1, _⟩ := c
  exact c1.symm
theorem CR.hs (c : CR h v) : hS h = hS v.1 := by
  obtain ⟨g, c1, c2, _⟩ := c
  exact c2.symm
theorem CR.he (c : CR h v) : hE h k = hE v.1 k := by
  obtain ⟨g, c1, c2, c3, _⟩ := c
  exact (c3 k).symm
theorem CR.f (c : CR h v) (e : hK v.1 a = n) (h0 : n ≠ 0) (hq : ¬ opq n) (k : Nat) : hI h a k = hI v.1 a k ∧ hJ h a k = hJ v.1 a k ∧ hR h a k = hR v.1 a k := by
  have l := c.lt (by rw [e]; exact h0)
  obtain ⟨g, c1, c2, c3, c4, c5⟩ := c
  exact ((c5 a l).2.1 (by rw [e]; exact h0) (by rw [e]; exact hq)).2 k
theorem CR.hl (c : CR h v) (e : hK v.1 a = n) (h0 : n ≠ 0) (hq : ¬ opq n) : hL h a = hL v.1 a := by
  have l := c.lt (by rw [e]; exact h0)
  obtain ⟨g, c1, c2, c3, c4, c5⟩ := c
  exact ((c5 a l).2.1 (by rw [e]; exact h0) (by rw [e]; exact hq)).1
theorem CR.ii (c : CR h v) (e : hK v.1 a = n) (w : wk n = true) : hI h a k = hI v.1 a k := (c.f e (wk_all w).1 (wk_all w).2.1 k).1
theorem CR.jj (c : CR h v) (e : hK v.1 a = n) (w : wk n = true) : hJ h a k = hJ v.1 a k := (c.f e (wk_all w).1 (wk_all w).2.1 k).2.1
theorem CR.rr (c : CR h v) (e : hK v.1 a = n) (w : wk n = true) : hR h a k = hR v.1 a k := (c.f e (wk_all w).1 (wk_all w).2.1 k).2.2
/-- a plain cell's fields are written -/
theorem CR_plain {h' : am_H} {v1 : am_H} (c : CR h v) (e : hK v.1 a = n) (w : wk n = true) (e1 : h'.1 = h.1) (e2 : h'.2.1 = h.2.1) (d1 : v1.1 = v.1.1) (d2 : v1.2.1 = v.1.2.1)
    (f : ∀ b k, b ≠ a → hI h' b k = hI h b k ∧ hJ h' b k = hJ h b k ∧ hR h' b k = hR h b k) (f2 : ∀ b k, b ≠ a → hI v1 b k = hI v.1 b k ∧ hJ v1 b k = hJ v.1 b k ∧ hR v1 b k = hR v.1 b k)
    (fa : ∀ k, hI h' a k = hI v1 a k ∧ hJ h' a k = hJ v1 a k ∧ hR h' a k = hR v1 a k) : CR h' (v1, v.2) := by
  have la := c.lt (by rw [e]; exact (wk_all w).1)
  have lw := wk_all w
  have ka := c.kk e lw.1
  obtain ⟨g, c⟩ := c
  have hk : ∀ b, hK h' b = hK h b := fun b => by unfold hK; rw [e1, e2]
  have hl : ∀ b, hL h' b = hL h b := fun b => by unfold hL; rw [e2]
  have hk2 : ∀ b, hK v1 b = hK v.1 b := fun b => by unfold hK; rw [d1, d2]
  have hl2 : ∀ b, hL v1 b = hL v.1 b := fun b => by unfold hL; rw [d2]
  have hn : hN h' = hN h := by unfold hN; rw [e1]
  have hs : hS h' = hS h := by unfold hS; rw [e1]
  have he : ∀ k, hE h' k = hE h k := fun k => by unfold hE; rw [e1]
  have hn2 : hN v1 = hN v.1 := by unfold hN; rw [d1]
  have hs2 : hS v1 = hS v.1 := by unfold hS; rw [d1]
  have he2 : ∀ k, hE v1 k = hE v.1 k := fun k => by unfold hE; rw [d1]
  have ga := (c.2.2.2.2 a la).1 (by rw [e]; exact lw.1)
  refine ⟨g, CRg_up (a0 := a) c ?_ ?_ (by rw [ka]; exact lw.2.2.1) (by rw [ka]; exact lw.2.2.2.1) (by rw [ka]; exact lw.2.2.2.2) (by show hN v1 = _; rw [hn2, hn]; exact c.1) (by show hS v1 = _; rw [hs2, hs]; exact c.2.1) (fun k => by show hE v1 k = _; rw [he2, he]; exact c.2.2.1 k) ?_⟩
  · refine ⟨by rw [hn]; exact Nat.le_refl _, he, fun b hb => ⟨rfl, hk b, hl b, fun q k => f b k ?_⟩⟩
    intro z
    rw [z, ga.1] at q
    exact q rfl
  · intro b hb
    exact ⟨hk2 b, fun _ => rfl, fun q => ⟨hl2 b, fun k => f2 b k q, rfl, rfl, rfl, rfl⟩⟩
  · intro b hb q
    have q' : b = a := by
      rcases q with q | q
      · exact q
      · rw [hn] at hb; omega
    subst q'
    have z := c.2.2.2.2 b la
    have nz : ∀ i, opq i → hK v1 b ≠ i := fun i hi => by rw [hk2, e]; intro y; rw [← y] at hi; exact lw.2.1 hi
    refine ⟨fun _ => ?_, fun _ _ => ?_, fun y => absurd y (nz 4 (Or.inl rfl)), fun y => absurd y (nz 6 (Or.inr (Or.inl rfl))), fun y => ?_, fun y => absurd y (nz 16 (Or.inr (Or.inr (Or.inr (Or.inr rfl)))))⟩
    · show g b = b ∧ hK h' b = hK v1 b
      rw [hk, hk2]
      exact ga
    · show hL h' b = hL v1 b ∧ _
      rw [hl, hl2]
      exact ⟨((z.2.1 (by rw [e]; exact lw.1) (by rw [e]; exact lw.2.1)).1), fa⟩
    · rcases y with y | y
      · exact absurd y (nz 10 (Or.inr (Or.inr (Or.inl rfl))))
      · exact absurd y (nz 11 (Or.inr (Or.inr (Or.inr (Or.inl rfl)))))
theorem am_ne {b j : Nat} (q : b ≠ a) : ¬ (b = a ∧ j = k) := fun z => q z.1
theorem CR_pI (c : CR h v) (e : hK v.1 a = n) (w : wk n = true) : CR (putI h a k x) (vpI v a k x) := by
  have fa := fun j => c.f e (wk_all w).1 (wk_all w).2.1 j
  refine CR_plain c e w rfl rfl rfl rfl (fun b j q => ⟨by rw [hI_putI, if_neg (am_ne q)], rfl, rfl⟩) (fun b j q => ⟨by rw [hI_putI, if_neg (am_ne q)], rfl, rfl⟩) (fun j => ⟨?_, (fa j).2.1, (fa j).2.2⟩)
  rw [hI_putI, hI_putI, (fa j).1]
theorem CR_pJ (c : CR h v) (e : hK v.1 a = n) (w : wk n = true) : CR (putJ h a k y) (vpJ v a k y) := by
  have fa := fun j => c.f e (wk_all w).1 (wk_all w).2.1 j
  refine CR_plain c e w rfl rfl rfl rfl (fun b j q => ⟨rfl, by rw [hJ_putJ, if_neg (am_ne q)], rfl⟩) (fun b j q => ⟨rfl, by rw [hJ_putJ, if_neg (am_ne q)], rfl⟩) (fun j => ⟨(fa j).1, ?_, (fa j).2.2⟩)
  rw [hJ_putJ, hJ_putJ, (fa j).2.1]
theorem CR_pR (c : CR h v) (e : hK v.1 a = n) (w : wk n = true) : CR (putR h a k z) (vpR v a k z) := by
  have fa := fun j => c.f e (wk_all w).1 (wk_all w).2.1 j
  refine CR_plain c e w rfl rfl rfl rfl (fun b j q => ⟨rfl, rfl, by rw [hR_putR, if_neg (am_ne q)]⟩) (fun b j q => ⟨rfl, rfl, by rw [hR_putR, if_neg (am_ne q)]⟩) (fun j => ⟨(fa j).1, (fa j).2.1, ?_⟩)
  rw [hR_putR, hR_putR, (fa j).2.2]
/-- a new plain cell -/
theorem CR_nw (c : CR h v) (w : wk m = true) : CR (newC h m n) (vnw v m n) := by
  have lw := wk_all w
  have hn := c.hn
  have hs := c.hs
  have he := fun k => c.he (k := k)
  obtain ⟨g, c⟩ := c
  have kn : hK h (hN h) = 0 := by unfold hK; rw [if_neg (by show ¬ hN h < hN h; omega)]
  refine ⟨fun b => if b = hN h then b else g b, CRg_up (a0 := hN h) c ⟨by rw [hN_newC]; omega, fun k => rfl, fun b hb => ⟨if_neg (by omega), by rw [hK_newC, if_neg (by omega)], by rw [hL_newC, if_neg (by omega)], fun _ k => ⟨by rw [hI_newC, if_neg (by omega)], by rw [hJ_newC, if_neg (by omega)], by rw [hR_newC, if_neg (by omega)]⟩⟩⟩ (fun b hb => ?_) (by rw [kn]; unfold shr; omega) (by rw [kn]; decide) (by rw [kn]; decide) ?_ ?_ ?_ ?_⟩
  · show hK (newC v.1 m n) b = _ ∧ _ ∧ (_ → hL (newC v.1 m n) b = _ ∧ (∀ k, hI (newC v.1 m n) b k = _ ∧ hJ (newC v.1 m n) b k = _ ∧ hR (newC v.1 m n) b k = _) ∧ _)
    refine ⟨by rw [hK_newC, if_neg (by omega)], fun _ => rfl, fun _ => ⟨by rw [hL_newC, if_neg (by omega)], fun k => ⟨by rw [hI_newC, if_neg (by omega)], by rw [hJ_newC, if_neg (by omega)], by rw [hR_newC, if_neg (by omega)]⟩, rfl, rfl, rfl, rfl⟩⟩
  · show hN v.1 + 1 = hN h + 1
    omega
  · show hS v.1 + n = hS h + n
    omega
  · exact fun k => (he k).symm
  · intro b hb q
    have q' : b = hN h := by
      rw [hN_newC] at hb
      omega
    subst q'
    have k1 : hK (vnw v m n).1 (hN h) = m := by rw [vnw_1, hK_newC, if_pos hn]
    have nz : ∀ i, opq i → hK (vnw v m n).1 (hN h) ≠ i := fun i hi => by rw [k1]; intro y; rw [← y] at hi; exact lw.2.1 hi
    refine ⟨fun _ => ⟨if_pos rfl, by rw [k1, hK_newC, if_pos rfl]⟩, fun _ _ => ?_, fun y => absurd y (nz 4 (Or.inl rfl)), fun y => absurd y (nz 6 (Or.inr (Or.inl rfl))), fun y => ?_, fun y => absurd y (nz 16 (Or.inr (Or.inr (Or.inr (Or.inr rfl)))))⟩
    · rw [vnw_1, hL_newC, hL_newC, if_pos rfl, if_pos hn]
      refine ⟨rfl, fun k => ?_⟩
      rw [hI_newC, hI_newC, hJ_newC, hJ_newC, hR_newC, hR_newC, if_pos rfl, if_pos hn, if_pos rfl, if_pos hn, if_pos rfl, if_pos hn]
      exact ⟨rfl, rfl, rfl⟩
    · rcases y with y | y
      · exact absurd y (nz 10 (Or.inr (Or.inr (Or.inl rfl))))
      · exact absurd y (nz 11 (Or.inr (Or.inr (Or.inr (Or.inl rfl)))))
end VQ
