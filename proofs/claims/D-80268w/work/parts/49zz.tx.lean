/-! JDK: texts *-/
/-- a text in the heap: b its bytes -/
def RS (h : am_H) (a b : Nat) (T : List Int32) : Prop := 10 ≤ hK h a ∧ hK h a ≤ 11 ∧ hR h a 0 = some b ∧ (hK h b = 44 ∨ hK h b = 45) ∧ hL h b = T.length ∧ (∀ i, i < T.length → hI h b i = T.getD i 0) ∧ hI h a 1 = 0 ∧ T.length ≤ 300
section TXS
variable {r a b e n k : Nat} {h : am_H} {v : vT} {Q : am_O → am_H → Prop} {x : Int} {T U : List Int32}
theorem CR.rs (c : CR h v) (ha : hK v.1 a = 10 ∨ hK v.1 a = 11) : ∃ b, RS h a b (vTx v a) ∧ b < hN h ∧ (hK h b = 44 ∨ hK v.1 a = 11) := by
  obtain ⟨b, b1, b2, b3, b4, b5, b6, b7, b8, b9, b10, b11, b12⟩ := c.tx ha
  exact ⟨b, ⟨by omega, by omega, b1, by omega, b4, b5, b6, b8⟩, b2, by omega⟩
theorem st_coder (s : RS h a b T) : Cl r 264 [vR (some a)] h Q ↔ Q (Sum.inl (some (vI 0))) h := by
  obtain ⟨s1, s2, s3, s4, s5, s6, s7, s8⟩ := s
  have one : ¬ ((1 : Int32) = 0) := by decide
  simp only [eJ13_coder, sJ13_coder_0, sJ13_coder_3, sJ13_coder_6, sJ13_coder_7, sJ13_coder_10, sJ13_coder_13, sJ13_coder_14, s1, s2, s7, one, if_false, show am_fit 5 0 = true from rfl]
theorem st_lat (s : RS h a b T) : Cl r 212 [vR (some a)] h Q ↔ Q (Sum.inl (some (vI 1))) h := by
  obtain ⟨s1, s2, s3, s4, s5, s6, s7, s8⟩ := s
  have one : ¬ ((1 : Int32) = 0) := by decide
  simp only [eJ13_isLatin1, sJ13_isLatin1_0, sJ13_isLatin1_3, sJ13_isLatin1_6, sJ13_isLatin1_7, sJ13_isLatin1_10, sJ13_isLatin1_13, sJ13_isLatin1_14, sJ13_isLatin1_17, sJ13_isLatin1_18, s1, s2, s7, one, if_false, ne_eq, not_true_eq_false, show am_fit 4 1 = true from rfl]
theorem st_length (s : RS h a b T) : Cl r 213 [vR (some a)] h Q ↔ Q (Sum.inl (some (vI (iI T.length)))) h := by
  have cd : ∀ Q, Cl r 264 [vR (some a)] h Q ↔ _ := fun Q => st_coder s
  obtain ⟨s1, s2, s3, s4, s5, s6, s7, s8⟩ := s
  have k1 : 40 ≤ hK h b := by omega
  have k2 : hK h b ≤ 49 := by omega
  simp only [eJ13_length, sJ13_length_0, sJ13_length_1, sJ13_length_4, sJ13_length_5, sJ13_length_6, sJ13_length_9, sJ13_length_10, s1, s2, s3, k1, k2, s5, iI_nI, cd, Kt_v, shr_0]
/-- the bytes of a text are put behind those of a builder -/
theorem st_getB (s : RS h a b T) (ke : hK h e = 44) (h1 : n + T.length ≤ hL h e) (h2 : hL h e ≤ 60000) : Cl r 307 [vR (some a), vR (some e), vI (iI n), vI 0] h Q ↔ Q (Sum.inl none) (cpyI h b 0 e n T.length) := by
  have cd : ∀ Q, Cl r 264 [vR (some a)] h Q ↔ _ := fun Q => st_coder s
  obtain ⟨s1, s2, s3, s4, s5, s6, s7, s8⟩ := s
  have k1 : 40 ≤ hK h b := by omega
  have k2 : hK h b ≤ 49 := by omega
  simp only [eJ13_getBytes, sJ13_getBytes_0, sJ13_getBytes_1 s1 s2, cd, Kt_v, sJ13_getBytes_4, sJ13_getBytes_5, ne_eq, not_true_eq_false, if_false, sJ13_getBytes_8, sJ13_getBytes_9 s1 s2, s3, sJ13_getBytes_12, sJ13_getBytes_13, sJ13_getBytes_14, sJ13_getBytes_15, sJ13_getBytes_16, shl_0, sJ13_getBytes_17, sJ13_getBytes_18 s1 s2, sJ13_getBytes_21 k1 k2, s5, iI_nI]
  rw [sJ13_getBytes_22 ⟨by rw [i_0, iI_le (by omega) (by omega) (by omega) (by omega)]; omega, by decide, by rw [i_0, iI_le (by omega) (by omega) (by omega) (by omega)]; omega, by rw [nn_i (by omega), s5, show ((0 : Int32)).toNatClampNeg = 0 from rfl]; omega, by rw [nn_i (by omega), nn_i (by omega)]; omega⟩ ⟨s4, ke⟩, nn_i (by omega), nn_i (by omega), sJ13_getBytes_25, sJ13_getBytes_43]
  rfl
theorem st_apT {m : Nat} (s : RS h e k T) (ha : hK h a = 16) (hb : hR h a 0 = some b) (kb : hK h b = 44) (hc : hI h a 1 = 0) (hs : hI h a 3 = iI n) (h1 : n + T.length ≤ hL h b) (h2 : hL h b ≤ 3000) :
    Rn r 268 24 [some (vR (some a)), some (vR (some e)), some (vI (iI T.length))] [] h Q ↔ Q (Sum.inl (some (vR (some a)))) (putI (cpyI h k 0 b n T.length) a 3 (iI ((n + T.length : Nat) : Int))) := by
  have cd : ∀ Q, Cl r 264 [vR (some e)] h Q ↔ _ := fun Q => st_coder s
  have gb : ∀ Q, Cl r 307 [vR (some e), vR (some b), vI (iI n), vI 0] h Q ↔ _ := fun Q => st_getB s kb h1 (by omega)
  obtain ⟨s1, s2, s3, s4, s5, s6, s7, s8⟩ := s
  have one : ¬ ((1 : Int32) = 0) := by decide
  have inf : ∀ Q, Cl r 306 [vR (some a), vR (some e)] h Q ↔ Q (Sum.inl none) h := fun Q => by
    simp only [eJ22_inflateIfNeededFor, sJ22_inflateIfNeededFor_0, sJ22_inflateIfNeededFor_3, sJ22_inflateIfNeededFor_6, sJ22_inflateIfNeededFor_7, sJ22_inflateIfNeededFor_10, sJ22_inflateIfNeededFor_11, sJ22_inflateIfNeededFor_14, sJ22_inflateIfNeededFor_17, sJ22_inflateIfNeededFor_21, one, if_false, ha, hc, s1, s2, cd, Kt_v, if_true]
  have ps : ∀ Q, Cl r 296 [vR (some a), vI (iI n), vR (some e)] h Q ↔ Q (Sum.inl none) (cpyI h k 0 b n T.length) := fun Q => by
    simp only [eJ22_putStringAt, sJ22_putStringAt_0, sJ22_putStringAt_1, sJ22_putStringAt_2, sJ22_putStringAt_5, sJ22_putStringAt_6, sJ22_putStringAt_7, sJ22_putStringAt_10, sJ22_putStringAt_11, sJ22_putStringAt_12, sJ22_putStringAt_15, sJ22_putStringAt_18, ha, inf, Kt_0, s1, s2, hb, hc, gb]
  have kc : hK (cpyI h k 0 b n T.length) a = 16 := ha
  have ab : a ≠ b := by rintro rfl; omega
  have ic : hI (cpyI h k 0 b n T.length) a 3 = iI n := by rw [hI_cpyI, if_neg (fun w => ab w.1)]; exact hs
  have ad : iI n + iI T.length = iI ((n + T.length : Nat) : Int) := by rw [iI_add]; rfl
  rw [sJ22_append_2_24, sJ22_append_2_25, sJ22_append_2_26 ha, hs, sJ22_append_2_29, sJ22_append_2_30 ha, ps, Kt_0, sJ22_append_2_33, sJ22_append_2_34, sJ22_append_2_35 kc, ic, sJ22_append_2_38, sJ22_append_2_39, ad, sJ22_append_2_40 kc, sJ22_append_2_43, sJ22_append_2_44]
/-- a text behind a builder's, where there is room -/
theorem v_aps {cp : Nat} (c : CR h v) (ha : hK v.1 a = 16) (he : hK v.1 e = 10 ∨ hK v.1 e = 11) (room : ∀ b, hR h a 0 = some b → hL h b = cp) (hl : (vTx v a).length + (vTx v e).length ≤ cp)
    (q : ∀ h', CR h' (vsT (vbm v (hN v.1) (hS v.1)) a (vTx v a ++ vTx v e)) → (∀ b, hR h' a 0 = some b → hL h' b = cp) → Q (Sum.inl (some (vR (some a)))) h') : Cl r 216 [vR (some a), vR (some e)] h Q := by
  obtain ⟨b, b1, b2, b3, b4, b5, b6, b7, b8, b9, b10, b11⟩ := c.sb ha
  obtain ⟨k, s, kn, _⟩ := c.rs he
  have okT := (c.tx he).choose_spec.2.2.2.2.2.2.1
  have la := c.lt (a := a) (by rw [ha]; decide)
  have lr := room b b1
  have k0 : 0 < hK h a := by omega
  have k1 : hK h a < 40 := by omega
  have e1 : 10 ≤ hK h e := s.1
  have e2 : hK h e ≤ 11 := s.2.1
  have ab : a ≠ b := Ne.symm b10
  have kb : k ≠ b := by
    rintro rfl
    obtain ⟨g, d⟩ := c
    obtain ⟨⟨w, w1, w2, w3, w4, w5⟩, z2⟩ := (d.2.2.2.2 a la).2.2.2.2.2 ha
    have le : e < hN h := by
      have : hK v.1 e ≠ 0 := by omega
      rw [← d.1]
      exact hK_lt rfl this
    obtain ⟨⟨u, u1, u2, u3, u4⟩, _⟩ := (d.2.2.2.2 e le).2.2.2.2.1 he
    have x1 : w = k := Option.some.inj (w1.symm.trans b1)
    have x2 : u = k := Option.some.inj (u1.symm.trans s.2.2.1)
    subst x1 x2
    rcases u3 with ⟨_, z⟩ | ⟨_, z, _⟩
    · rw [w4] at z
      rw [z] at ha
      omega
    · omega
  have len : ∀ Q, Cl r 213 [vR (some e)] h Q ↔ _ := fun Q => st_length s
  have ad : iI (vTx v a).length + iI (vTx v e).length = iI (((vTx v a).length + (vTx v e).length : Nat) : Int) := by rw [iI_add]; rfl
  have ens : ∀ Q, Cl r 153 [vR (some a), vI (iI (((vTx v a).length + (vTx v e).length : Nat) : Int))] h Q ↔ _ := fun Q => sb_ens (cp := cp) b11 b1 b3 lr b7 hl (by omega)
  rw [eJ23_append_2, sJ23_append_2_0, sJ23_append_2_1, sJ23_append_2_2 k0 k1, eJ22_append_2, sJ22_append_2_0, sJ22_append_2_1, if_pos (by simp), sJ22_append_2_9, sJ22_append_2_10 e1 e2, len, Kt_v, sJ22_append_2_13, sJ22_append_2_14, sJ22_append_2_15, sJ22_append_2_16 b11, b9, sJ22_append_2_19, sJ22_append_2_20, ad, sJ22_append_2_21 b11, ens, Kt_0, st_apT (m := 0) s b11 b1 b3 b7 b9 (by omega) b5, Kt_v, sJ23_append_2_5, sJ23_append_2_6, sJ23_append_2_7]
  have len1 : (vTx v a ++ vTx v e).length = (vTx v a).length + (vTx v e).length := List.length_append
  refine q _ ?_ ?_
  · have key := CR_sb (e' := b) (T := vTx v a ++ vTx v e) (h' := putI (cpyI h k 0 b (vTx v a).length (vTx v e).length) a 3 (iI (((vTx v a).length + (vTx v e).length : Nat) : Int))) c ha b1 (Nat.le_refl _) (by show hN h ≤ hN h + 1; omega) (fun _ _ => ⟨rfl, rfl⟩) (fun _ => rfl) (fun d hd q1 q2 j => ⟨by rw [hI_putI, if_neg (am_ne q1), hI_cpyI, if_neg (fun w => q2 w.1)], rfl, rfl⟩) (Or.inl rfl) b5 (by rw [len1]; show _ ≤ hL h b; omega) ?_ b1 (by rw [hI_putI, if_neg (fun w => absurd w.2 (by decide)), hI_cpyI, if_neg (fun w => ab w.1)]; exact b7) (by rw [hI_putI, if_pos ⟨rfl, rfl⟩, len1]) (fun i hi => ?_)
    · have ev : vsT (vbm v (hN (putI (cpyI h k 0 b (vTx v a).length (vTx v e).length) a 3 (iI (((vTx v a).length + (vTx v e).length : Nat) : Int)))) (hS (putI (cpyI h k 0 b (vTx v a).length (vTx v e).length) a 3 (iI (((vTx v a).length + (vTx v e).length : Nat) : Int))))) a (vTx v a ++ vTx v e) = vsT (vbm v (hN v.1) (hS v.1)) a (vTx v a ++ vTx v e) := by
        rw [← c.hn, ← c.hs]; rfl
      rw [ev] at key
      exact key
    · intro y hy
      rcases List.mem_append.mp hy with z | z
      · exact b8 y z
      · exact okT y z
    · rw [len1] at hi
      rw [hI_putI, if_neg (am_ne b10), hI_cpyI, List.getD_eq_getElem?_getD]
      by_cases w : i < (vTx v a).length
      · rw [if_neg (fun y => by have := y.2.1; omega), List.getElem?_append_left w, b6 i w, List.getD_eq_getElem?_getD]
      · rw [if_pos ⟨rfl, by omega, by omega⟩, List.getElem?_append_right (by omega), show 0 + (i - (vTx v a).length) = i - (vTx v a).length by omega, s.2.2.2.2.2.1 _ (by omega), List.getD_eq_getElem?_getD]
  · intro d hd
    rw [hR_putI, hR_cpyI, b1] at hd
    cases hd
    exact lr
end TXS
