/-! BOTH, 1: one heap for the component and its twin *-/
/-- h' in the cells below k -/
def mxH (k : Nat) (h h' : am_H) : am_H := (h.1, h.2.1, (fun a j => if a < k then hI h' a j else hI h a j), (fun a j => if a < k then hJ h' a j else hJ h a j), (fun a j => if a < k then hR h' a j else hR h a j))
section MXS
variable {h h' v1 : am_H} {v : vT} {a j k : Nat}
theorem hI_mx : hI (mxH k h h') a j = if a < k then hI h' a j else hI h a j := rfl
theorem hJ_mx : hJ (mxH k h h') a j = if a < k then hJ h' a j else hJ h a j := rfl
theorem hR_mx : hR (mxH k h h') a j = if a < k then hR h' a j else hR h a j := rfl
theorem mx_0 : mxH 0 h h' = h := am_H_ext (h := mxH 0 h h') (h' := h) rfl rfl (fun a j => by rw [hI_mx, if_neg (Nat.not_lt_zero a)]) (fun a j => by rw [hJ_mx, if_neg (Nat.not_lt_zero a)]) (fun a j => by rw [hR_mx, if_neg (Nat.not_lt_zero a)])
theorem mx_s (e : ∀ j, hI h' k j = hI h k j ∧ hJ h' k j = hJ h k j ∧ hR h' k j = hR h k j) : mxH (k + 1) h h' = mxH k h h' := by
  refine am_H_ext (h := mxH (k + 1) h h') (h' := mxH k h h') rfl rfl (fun a j => ?_) (fun a j => ?_) (fun a j => ?_)
  · rw [hI_mx, hI_mx]
    by_cases z : a = k
    · rw [z, if_pos (by omega), if_neg (by omega)]; exact (e j).1
    · by_cases y : a < k
      · rw [if_pos y, if_pos (by omega)]
      · rw [if_neg y, if_neg (by omega)]
  · rw [hJ_mx, hJ_mx]
    by_cases z : a = k
    · rw [z, if_pos (by omega), if_neg (by omega)]; exact (e j).2.1
    · by_cases y : a < k
      · rw [if_pos y, if_pos (by omega)]
      · rw [if_neg y, if_neg (by omega)]
  · rw [hR_mx, hR_mx]
    by_cases z : a = k
    · rw [z, if_pos (by omega), if_neg (by omega)]; exact (e j).2.2
    · by_cases y : a < k
      · rw [if_pos y, if_pos (by omega)]
      · rw [if_neg y, if_neg (by omega)]
theorem mx_o (hb : a ≠ k) : hI (mxH (k + 1) h h') a j = hI (mxH k h h') a j ∧ hJ (mxH (k + 1) h h') a j = hJ (mxH k h h') a j ∧ hR (mxH (k + 1) h h') a j = hR (mxH k h h') a j := by
  rw [hI_mx, hI_mx, hJ_mx, hJ_mx, hR_mx, hR_mx]
  by_cases y : a < k
  · rw [if_pos y, if_pos (by omega), if_pos y, if_pos (by omega), if_pos y, if_pos (by omega)]
    exact ⟨rfl, rfl, rfl⟩
  · rw [if_neg y, if_neg (by omega), if_neg y, if_neg (by omega), if_neg y, if_neg (by omega)]
    exact ⟨rfl, rfl, rfl⟩
theorem CR_mx (c : CR h v) (n : ∀ a, wk (hK v.1 a) = true ∨ ∀ j, (hI h' a j = hI h a j ∧ hJ h' a j = hJ h a j ∧ hR h' a j = hR h a j) ∧ (hI v1 a j = hI v.1 a j ∧ hJ v1 a j = hJ v.1 a j ∧ hR v1 a j = hR v.1 a j)) (f : ∀ a, wk (hK v.1 a) = true → ∀ j, hI h' a j = hI v1 a j ∧ hJ h' a j = hJ v1 a j ∧ hR h' a j = hR v1 a j) : ∀ k, CR (mxH k h h') (mxH k v.1 v1, v.2)
  | 0 => by
    rw [mx_0, mx_0]
    exact c
  | k + 1 => by
    have ih := CR_mx c n f k
    by_cases z : wk (hK v.1 k) = true
    · refine CR_plain (h := mxH k h h') (h' := mxH (k + 1) h h') (v := (mxH k v.1 v1, v.2)) (v1 := mxH (k + 1) v.1 v1) (a := k) (n := hK v.1 k) ih rfl z rfl rfl rfl rfl (fun b j hb => mx_o hb) (fun b j hb => mx_o hb) (fun j => ?_)
      rw [hI_mx, hI_mx, hJ_mx, hJ_mx, hR_mx, hR_mx, if_pos (by omega), if_pos (by omega), if_pos (by omega), if_pos (by omega), if_pos (by omega), if_pos (by omega)]
      exact f k z j
    · have e := (n k).resolve_left z
      rw [mx_s (fun j => (e j).1), mx_s (fun j => (e j).2)]
      exact ih
theorem CR_many (c : CR h v) (e1 : h'.1 = h.1) (e2 : h'.2.1 = h.2.1) (d1 : v1.1 = v.1.1) (d2 : v1.2.1 = v.1.2.1) (n : ∀ a, wk (hK v.1 a) = true ∨ ∀ j, (hI h' a j = hI h a j ∧ hJ h' a j = hJ h a j ∧ hR h' a j = hR h a j) ∧ (hI v1 a j = hI v.1 a j ∧ hJ v1 a j = hJ v.1 a j ∧ hR v1 a j = hR v.1 a j)) (f : ∀ a, wk (hK v.1 a) = true → ∀ j, hI h' a j = hI v1 a j ∧ hJ h' a j = hJ v1 a j ∧ hR h' a j = hR v1 a j) : CR h' (v1, v.2) := by
  have r := CR_mx c n f (hN v.1)
  have out : ∀ a, ¬ a < hN v.1 → ∀ j, (hI h' a j = hI h a j ∧ hJ h' a j = hJ h a j ∧ hR h' a j = hR h a j) ∧ (hI v1 a j = hI v.1 a j ∧ hJ v1 a j = hJ v.1 a j ∧ hR v1 a j = hR v.1 a j) := fun a ha => by
    refine (n a).resolve_left (fun z => ?_)
    have := (wk_all z).1
    exact ha (hK_lt rfl this)
  have E1 : mxH (hN v.1) h h' = h' := by
    refine am_H_ext (h := mxH (hN v.1) h h') (h' := h') e1.symm e2.symm (fun a j => ?_) (fun a j => ?_) (fun a j => ?_)
    · rw [hI_mx]
      split
      · rfl
      · rename_i z; exact ((out a z j).1.1).symm
    · rw [hJ_mx]
      split
      · rfl
      · rename_i z; exact ((out a z j).1.2.1).symm
    · rw [hR_mx]
      split
      · rfl
      · rename_i z; exact ((out a z j).1.2.2).symm
  have E2 : mxH (hN v.1) v.1 v1 = v1 := by
    refine am_H_ext (h := mxH (hN v.1) v.1 v1) (h' := v1) d1.symm d2.symm (fun a j => ?_) (fun a j => ?_) (fun a j => ?_)
    · rw [hI_mx]
      split
      · rfl
      · rename_i z; exact ((out a z j).2.1).symm
    · rw [hJ_mx]
      split
      · rfl
      · rename_i z; exact ((out a z j).2.2.1).symm
    · rw [hR_mx]
      split
      · rfl
      · rename_i z; exact ((out a z j).2.2.2).symm
  rw [E1, E2] at r
  exact r
end MXS
/-- the twin's cells of a heap bear a state -/
def Agr (H : am_H) (m : Nat) (w : Int) (S U : tSt) : Prop := ∀ d k x, d < 57 → tV w S U d k = some x → (tT d k = false → hI H (m + d) k = iI x) ∧ (tT d k = true → hJ H (m + d) k = lI x)
/-- both halves -/
def TWs (H : am_H) (m : Nat) (w : Int) (S U U1 : tSt) : Prop := TS H m ∧ Agr H m w S U ∧ Agr H m (1 - w) S U1
/-- a view with the twin's cells laid anew -/
def vtp (v : vT) (m : Nat) (w : Int) (S U : tSt) : vT := (tput v.1 m w S U, v.2)
section TWO
variable {h h' : am_H} {v v' : vT} {m : Nat} {w : Int} {S S' S1 U U' U1 : tSt}
theorem tK_k (d : Nat) (h : d < 57) (h0 : 0 < d) : tK d = 40 ∨ tK d = 42 ∨ tK d = 43 := by
  have : ∀ d : Fin 57, 0 < d.val → tK d.val = 40 ∨ tK d.val = 42 ∨ tK d.val = 43 := by decide
  exact this ⟨d, h⟩ h0
/-- the kinds of the twin's cells -/
theorem TS.kd (t : TS h m) {a : Nat} (ha : m ≤ a ∧ a < m + 57) : hK h a = 15 ∨ hK h a = 40 ∨ hK h a = 42 ∨ hK h a = 43 := by
  obtain ⟨d, rfl⟩ : ∃ d, a = m + d := ⟨a - m, by omega⟩
  by_cases z : d = 0
  · rw [z]; exact Or.inl t.1
  · rw [(t.2.1 d (by omega) (by omega)).1]
    exact Or.inr (tK_k d (by omega) (by omega))
theorem wk_tw {n : Nat} (h : n = 15 ∨ n = 40 ∨ n = 42 ∨ n = 43) : wk n = true := by
  rcases h with rfl | rfl | rfl | rfl <;> rfl
theorem tpI_o {a k : Nat} (ha : ¬ (m ≤ a ∧ a < m + 57)) : hI (tput h m w S U) a k = hI h a k ∧ hJ (tput h m w S U) a k = hJ h a k ∧ hR (tput h m w S U) a k = hR h a k := by
  refine ⟨?_, ?_, rfl⟩
  · show tpI h m w S U a k = _
    unfold tpI
    rw [if_neg (fun z => ha ⟨z.1, z.2.1⟩)]
  · show tpJ h m w S U a k = _
    unfold tpJ
    rw [if_neg (fun z => ha ⟨z.1, z.2.1⟩)]
theorem CR_tp (c : CR h v) (t : TS v.1 m) : CR (tput h m w S U) (vtp v m w S U) := by
  refine CR_many c rfl rfl rfl rfl (fun a => ?_) (fun a z j => ?_)
  · by_cases y : m ≤ a ∧ a < m + 57
    · exact Or.inl (wk_tw (t.kd y))
    · exact Or.inr (fun j => ⟨tpI_o y, tpI_o y⟩)
  · have e := c.f (a := a) rfl (wk_all z).1 (wk_all z).2.1 j
    refine ⟨?_, ?_, e.2.2⟩
    · show tpI h m w S U a j = tpI v.1 m w S U a j
      unfold tpI
      rw [e.1]
    · show tpJ h m w S U a j = tpJ v.1 m w S U a j
      unfold tpJ
      rw [e.2.1]
theorem Fw_tp (t : TS v.1 m) : Fw (fun a _ => hK v.1 a = 15 ∨ hK v.1 a = 40 ∨ hK v.1 a = 42 ∨ hK v.1 a = 43) v (vtp v m w S U) := by
  refine ⟨Nat.le_refl _, fun _ => rfl, fun a ha => ⟨rfl, rfl, fun k q => ?_, fun q => ⟨rfl, rfl, rfl, rfl⟩⟩⟩
  have na : ¬ (m ≤ a ∧ a < m + 57) := fun y => q (t.kd y)
  exact tpI_o na
theorem Agr.id (a : Agr h m w S U) : tput h m w S U = h := tput_id a
theorem Agr_t : Agr (tput h m w S U) m w S U := fun d k x hd e => by
  have ea : m ≤ m + d ∧ m + d < m + 57 := by omega
  have es : m + d - m = d := by omega
  refine ⟨fun t => ?_, fun t => ?_⟩
  · show tpI h m w S U (m + d) k = _
    unfold tpI
    rw [es, if_pos ⟨ea.1, ea.2, t⟩, e]
  · show tpJ h m w S U (m + d) k = _
    unfold tpJ
    rw [es, if_pos ⟨ea.1, ea.2, t⟩, e]
theorem TS_t (t : TS h m) : TS (tput h m w S U) m := t
/-- a new state in the same half -/
theorem TWs_t (t : TWs h m w S U U1) (w0 : 0 ≤ w) (w1 : w ≤ 1) : TWs (tput h m w S' U') m w S' U' U1 := by
  obtain ⟨t1, t2, t3⟩ := t
  refine ⟨TS_t t1, Agr_t, ?_⟩
  have : tput h m w S' U' = tput (tput h m w S' U') m (1 - w) S' U1 := by
    have e : tput (tput h m (1 - w) S U1) m w S' U' = tput (tput h m w S' U') m (1 - w) S' U1 := tput_two (by omega) (by omega) (by omega)
    rw [Agr.id t3] at e
    exact e
  rw [this]
  exact Agr_t
/-- two halves laid -/
theorem TWs_2 (t : TS h m) (w0 : 0 ≤ w) (w1 : w ≤ 1) : TWs (tput (tput h m (1 - w) S1 U1) m w S U) m w S U U1 := by
  refine ⟨TS_t (TS_t t), Agr_t, ?_⟩
  rw [tput_two (h := h) (m := m) (w := 1 - w) (w' := w) (S1 := S1) (U1 := U1) (S2 := S) (U2 := U) (by omega) (by omega) (by omega)]
  exact Agr_t
theorem Agr.cr (a : Agr v.1 m w S U) (t : TS v.1 m) (c : CR h v) : Agr h m w S U := fun d k x hd e => by
  have kd := wk_tw (t.kd (a := m + d) (by omega))
  have f := c.f (a := m + d) rfl (wk_all kd).1 (wk_all kd).2.1 k
  rw [f.1, f.2.1]
  exact a d k x hd e
theorem TS.cr (t : TS v.1 m) (c : CR h v) : TS h m := by
  refine ⟨c.kk t.1 (by decide), fun d hd h0 => ?_, fun f hf hA => ?_⟩
  · obtain ⟨t1, t2⟩ := t.2.1 d hd h0
    have kd := wk_tw (t.kd (a := m + d) (by omega))
    rw [c.kd (wk_all kd).1, c.hl (a := m + d) rfl (wk_all kd).1 (wk_all kd).2.1]
    exact ⟨t1, t2⟩
  · rw [c.rr t.1 rfl]
    exact t.2.2 f hf hA
theorem TWs.cr (t : TWs v.1 m w S U U1) (c : CR h v) : TWs h m w S U U1 := ⟨t.1.cr c, t.2.1.cr t.1 c, t.2.2.cr t.1 c⟩
theorem Agr.kt (a : Agr v.1 m w S U) (t : TS v.1 m) (k : KT v v') : Agr v'.1 m w S U := fun d i x hd e => by
  obtain ⟨_, _, f⟩ := k (m + d) (by have := t.kd (a := m + d) (by omega); omega)
  rw [(f i).1, (f i).2.1]
  exact a d i x hd e
/-- the twin is where it was -/
theorem TWs.kt (t : TWs v.1 m w S U U1) (k : KT v v') : TWs v'.1 m w S U U1 := by
  obtain ⟨t1, t2, t3⟩ := t
  refine ⟨⟨?_, fun d hd h0 => ?_, fun f hf hA => ?_⟩, t2.kt t1 k, t3.kt t1 k⟩
  · rw [(k m (Or.inl t1.1)).1]; exact t1.1
  · obtain ⟨a1, a2, _⟩ := k (m + d) (by have := t1.kd (a := m + d) (by omega); omega)
    rw [a1, a2]
    exact t1.2.1 d hd h0
  · rw [((k m (Or.inl t1.1)).2.2 f).2.2]
    exact t1.2.2 f hf hA
end TWO
