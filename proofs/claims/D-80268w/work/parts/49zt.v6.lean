/-! THE VIEW, 6: texts and builders of texts *-/
section VT
variable {g : Nat → Nat} {h h' : am_H} {v : vT} {a b k j c n s l m e e' i : Nat} {x : Int32} {y : Int64} {z : Option Nat} {T t : List Int32}
theorem CR.tx (c : CR h v) (ha : hK v.1 a = 10 ∨ hK v.1 a = 11) : ∃ b, hR h a 0 = some b ∧ b < hN h ∧ (hK h b = 44 ∨ (hK v.1 a = 11 ∧ hK h b = 45)) ∧ hL h b = (vTx v a).length ∧ (∀ i, i < (vTx v a).length → hI h b i = (vTx v a).getD i 0) ∧ hI h a 1 = 0 ∧ okB (vTx v a) ∧ (vTx v a).length ≤ 300
    ∧ (hI h a 2 = 0 ∨ hI h a 2 = hashS (vTx v a)) ∧ (hI h a 3 ≠ 0 → hashS (vTx v a) = 0) ∧ (hK v.1 a = 11 → hI h a 2 ≠ 0 ∨ hI h a 3 ≠ 0) ∧ hK h a = hK v.1 a := by
  have la := c.lt (a := a) (by omega)
  have ka := c.kd (a := a) (by omega)
  obtain ⟨g, c⟩ := c
  obtain ⟨⟨b, b1, b2, b3, b4, b5⟩, t2, t3, t4, t5, t6, t7⟩ := (c.2.2.2.2 a la).2.2.2.2.1 ha
  refine ⟨b, b1, b2, ?_, b4, b5, t2, t3, t4, t5, t6, t7, ka⟩
  rcases b3 with z | z
  · exact Or.inl z.1
  · exact Or.inr ⟨z.1, z.2.1⟩
theorem CR.sb (c : CR h v) (ha : hK v.1 a = 16) : ∃ b, hR h a 0 = some b ∧ b < hN h ∧ hK h b = 44 ∧ (vTx v a).length ≤ hL h b ∧ hL h b ≤ 3000 ∧ (∀ i, i < (vTx v a).length → hI h b i = (vTx v a).getD i 0) ∧ hI h a 1 = 0 ∧ okB (vTx v a) ∧ hI h a 3 = iI (vTx v a).length ∧ b ≠ a ∧ hK h a = 16 := by
  have la := c.lt (a := a) (by omega)
  have ka := c.kk ha (by decide)
  obtain ⟨g, c⟩ := c
  obtain ⟨⟨b, b1, b2, b3, b4, b5, b6, b7⟩, t2, t3, t4⟩ := (c.2.2.2.2 a la).2.2.2.2.2 ha
  refine ⟨b, b1, b2, b3, b5, b6, b7, t2, t3, t4, ?_, ka⟩
  rintro rfl
  omega
theorem kz (hb : hN v.1 ≤ b) : hK v.1 b = 0 := by
  unfold hK
  rw [if_neg]
  show ¬ b < hN v.1
  omega
theorem kz' (hb : hN h ≤ b) : hK h b = 0 := by
  unfold hK
  rw [if_neg]
  show ¬ b < hN h
  omega
/-- a builder's own cells change -/
theorem CR_sb (c : CR h v) (ha : hK v.1 a = 16) (he : hR h a 0 = some e) (hn : hN h ≤ hN h') (hn1 : hN h' ≤ hN h + 1) (hk : ∀ b, b < hN h → hK h' b = hK h b ∧ hL h' b = hL h b) (hE' : ∀ k, hE h' k = hE h k)
    (hf : ∀ b, b < hN h → b ≠ a → b ≠ e → ∀ k, hI h' b k = hI h b k ∧ hJ h' b k = hJ h b k ∧ hR h' b k = hR h b k)
    (row : e' = e ∨ (e' = hN h ∧ hN h < hN h' ∧ hK h' e' = 44)) (l1 : hL h' e' ≤ 3000) (l2 : T.length ≤ hL h' e') (ok : okB T) (r1 : hR h' a 0 = some e') (r2 : hI h' a 1 = 0) (r3 : hI h' a 3 = iI T.length) (r4 : ∀ i, i < T.length → hI h' e' i = T.getD i 0) :
    CR h' (vsT (vbm v (hN h') (hS h')) a T) := by
  have ka := c.kk ha (by decide)
  have la := c.lt (a := a) (by rw [ha]; decide)
  have hvn := c.hn
  obtain ⟨g, c⟩ := c
  have ga := ((c.2.2.2.2 a la).1 (by rw [ha]; decide)).1
  obtain ⟨⟨e0, e1, e2, e3, e4, e5⟩, t2⟩ := (c.2.2.2.2 a la).2.2.2.2.2 ha
  have ee : e0 = e := Option.some.inj (e1.symm.trans he)
  subst ee
  have kv : ∀ b, hK (vsT (vbm v (hN h') (hS h')) a T).1 b = hK v.1 b := fun b => hK_bmp (by omega)
  refine ⟨gN g (hN h) a, CRg_up (a0 := a) c ⟨hn, hE', fun b hb => ⟨gN_ne (by omega), (hk b hb).1, (hk b hb).2, fun q => hf b hb (fun z => q (by rw [z, ga])) (fun z => q (by rw [z, e4]))⟩⟩ ?_ (by rw [ka]; unfold shr; omega) (by rw [ka]; decide) (by rw [ka]; decide) rfl rfl (fun k => by rw [hE']; exact c.2.2.1 k) ?_⟩
  · intro b hb
    refine ⟨kv b, fun q => if_neg (fun z => by rw [z, ha] at q; omega), fun q => ⟨rfl, fun k => ⟨rfl, rfl, rfl⟩, rfl, if_neg q, rfl, rfl⟩⟩
  · intro b hb q
    by_cases q2 : b = a
    · subst q2
      refine ⟨fun _ => ⟨by rw [gN_ne (by omega)]; exact ga, by rw [kv, (hk b la).1, ka, ha]⟩, fun _ y => absurd (Or.inr (Or.inr (Or.inr (Or.inr (by rw [kv]; exact ha))))) y, fun y => ?_, fun y => ?_, fun y => ?_, fun y => ?_⟩
      · rw [kv, ha] at y; omega
      · rw [kv, ha] at y; omega
      · rw [kv, ha] at y; omega
      · rw [vTx_sT, if_pos rfl]
        refine ⟨⟨e', r1, ?_, ?_, ?_, l2, l1, r4⟩, r2, ok, r3⟩
        · rcases row with z | z <;> omega
        · rcases row with z | z
          · rw [z, (hk _ e2).1]; exact e3
          · exact z.2.2
        · rcases row with z | z
          · rw [z, gN_ne (by omega)]; exact e4
          · rw [z.1]; exact gN_eq
    · refine VO_0 ?_
      rw [kv]
      exact kz (by omega)
/-- a new cell with one hidden row: a builder or a text -/
theorem CR_n2 {d : Nat} {v' : vT} (c : CR h v) (hn : hN h' = hN h + 2) (hE' : ∀ k, hE h' k = hE h k) (old : ∀ b, b < hN h → hK h' b = hK h b ∧ hL h' b = hL h b ∧ ∀ k, hI h' b k = hI h b k ∧ hJ h' b k = hJ h b k ∧ hR h' b k = hR h b k)
    (ev : v' = vsT (vbm (vnw v d l) (hN h') (hS h')) (hN v.1) T) (hd : d = 10 ∨ d = 16) (k1 : hK h' (hN h) = d) (k2 : hK h' (hN h + 1) = 44) (r1 : hR h' (hN h) 0 = some (hN h + 1)) (r2 : hI h' (hN h) 1 = 0) (ok : okB T) (l1 : T.length ≤ hL h' (hN h + 1)) (l2 : hL h' (hN h + 1) ≤ 3000)
    (r4 : ∀ i, i < T.length → hI h' (hN h + 1) i = T.getD i 0) (p1 : d = 10 → hL h' (hN h + 1) = T.length ∧ T.length ≤ 300 ∧ hI h' (hN h) 2 = 0 ∧ hI h' (hN h) 3 = 0) (p2 : d = 16 → hI h' (hN h) 3 = iI T.length) : CR h' v' := by
  have hvn := c.hn
  have hs := c.hs
  have he := fun k => c.he (k := k)
  obtain ⟨g, c⟩ := c
  have kn := kz' (h := h) (Nat.le_refl _)
  have kv : ∀ b, hK v'.1 b = if b = hN v.1 then d else hK v.1 b := fun b => by
    rw [ev, vsT_1, vbm_1, hK_bmp (by rw [vnw_1, hN_newC]; omega), vnw_1, hK_newC]
  refine ⟨gN (gN g (hN h) (hN h)) (hN h + 1) (hN h), CRg_up (a0 := hN h) c ⟨by omega, hE', fun b hb => ⟨by rw [gN_ne (by omega), gN_ne (by omega)], (old b hb).1, (old b hb).2.1, fun _ => (old b hb).2.2⟩⟩ (fun b hb => ?_) (by rw [kn]; unfold shr; omega) (by rw [kn]; decide) (by rw [kn]; decide) (by rw [ev]; rfl) (by rw [ev]; rfl) (fun k => by rw [ev, hE', he]; rfl) ?_⟩
  · refine ⟨by rw [kv, if_neg (by omega)], fun q => by rw [ev, vTx_sT, if_neg (by omega)]; rfl, fun q => ⟨?_, fun k => ⟨?_, ?_, ?_⟩, by rw [ev]; rfl, by rw [ev, vTx_sT, if_neg (by omega)]; rfl, by rw [ev]; rfl, by rw [ev]; rfl⟩⟩
    · rw [ev, vsT_1, vbm_1, hL_bmp, vnw_1, hL_newC, if_neg (by omega)]
    · rw [ev, vsT_1, vbm_1, hI_bmp, vnw_1, hI_newC, if_neg (by omega)]
    · rw [ev, vsT_1, vbm_1, hJ_bmp, vnw_1, hJ_newC, if_neg (by omega)]
    · rw [ev, vsT_1, vbm_1, hR_bmp, vnw_1, hR_newC, if_neg (by omega)]
  · intro b hb q
    by_cases q' : b = hN h
    · subst q'
      have kd : hK v'.1 (hN h) = d := by rw [kv, if_pos hvn]
      have tv : vTx v' (hN h) = T := by rw [ev, vTx_sT, if_pos hvn]
      have gg : gN (gN g (hN h) (hN h)) (hN h + 1) (hN h) (hN h) = hN h := by rw [gN_ne (by omega)]; exact gN_eq
      refine ⟨fun _ => ⟨gg, by rw [kd, k1]⟩, fun _ y => absurd ?_ y, fun y => by omega, fun y => by omega, fun y => ?_, fun y => ?_⟩
      · rw [kd]
        unfold opq
        omega
      · have d10 : d = 10 := by omega
        obtain ⟨z1, z2, z3, z4⟩ := p1 d10
        rw [tv, kd, d10]
        exact ⟨⟨hN h + 1, r1, by omega, Or.inl ⟨k2, gN_eq⟩, z1, r4⟩, r2, ok, z2, Or.inl z3, fun w => absurd z4 w, fun w => absurd w (by decide)⟩
      · rw [tv]
        exact ⟨⟨hN h + 1, r1, by omega, k2, gN_eq, l1, l2, r4⟩, r2, ok, p2 (by omega)⟩
    · refine VO_0 ?_
      rw [kv, if_neg (by omega)]
      exact kz (by omega)
end VT
