/-! JDK: texts, 2: equal texts, numbers of texts *-/
def BA (h : am_H) (b : Nat) (T : List Int32) : Prop := (hK h b = 44 ∨ hK h b = 45) ∧ hL h b = T.length ∧ (∀ i, i < T.length → hI h b i = T.getD i 0) ∧ T.length ≤ 300
section TX2
variable {r a b e n k i : Nat} {h : am_H} {v : vT} {Q : am_O → am_H → Prop} {x : Int} {T U : List Int32}
theorem RS.ba (s : RS h a b T) : BA h b T := ⟨s.2.2.2.1, s.2.2.2.2.1, s.2.2.2.2.2.1, s.2.2.2.2.2.2.2⟩
theorem dropE {d : Int32} {T : List Int32} (hi : i < T.length) : T.drop i = T.getD i d :: T.drop (i + 1) := by
  rw [List.drop_eq_getElem_cons hi, List.getD_eq_getElem?_getD, List.getElem?_eq_getElem hi]
  rfl
theorem c_i1 {n : Nat} : iI n + (1 : Int32) = iI ((n + 1 : Nat) : Int) := by rw [i_1, iI_add]; rfl
theorem ba_eqL (A : BA h a T) (B : BA h b U) (hl : T.length = U.length) : ∀ (d i : Nat), i + d = T.length →
    (Rn r 167 9 [some (vR (some a)), some (vR (some b)), some (vI (iI i))] [] h Q ↔ Q (Sum.inl (some (vI (if T.drop i = U.drop i then 1 else 0)))) h) := by
  obtain ⟨a1, a2, a3, a4⟩ := A
  obtain ⟨b1, b2, b3, b4⟩ := B
  have k1 : 40 ≤ hK h a := by omega
  have k2 : hK h a ≤ 49 := by omega
  have k3 : 43 ≤ hK h a := by omega
  have k4 : hK h a ≤ 45 := by omega
  have k5 : 43 ≤ hK h b := by omega
  have k6 : hK h b ≤ 45 := by omega
  intro d
  induction d with
  | zero =>
    intro i hi
    have c1 : iI T.length ≤ iI i := by rw [iI_le (by omega) (by omega) (by omega) (by omega)]; omega
    rw [List.drop_eq_nil_of_le (by omega), List.drop_eq_nil_of_le (by omega), if_pos rfl]
    simp only [sJ14_equals_9, sJ14_equals_10, sJ14_equals_11, sJ14_equals_12, k1, k2, a2, iI_nI, c1, if_true, sJ14_equals_32, sJ14_equals_33, show am_fit 4 1 = true from rfl]
  | succ d ih =>
    intro i hi
    have c1 : ¬ iI T.length ≤ iI i := by rw [iI_le (by omega) (by omega) (by omega) (by omega)]; omega
    have d1 := bd_i (n := i) (l := hL h a) (by omega) (by omega)
    have d2 := bd_i (n := i) (l := hL h b) (by omega) (by omega)
    rw [dropE (d := 0) (T := T) (by omega), dropE (d := 0) (T := U) (by omega)]
    rw [sJ14_equals_9, sJ14_equals_10, sJ14_equals_11 k1 k2, a2, iI_nI, sJ14_equals_12, if_neg c1, sJ14_equals_15, sJ14_equals_16, sJ14_equals_17 k3 k4 d1, nn_i (by omega), a3 i (by omega), sJ14_equals_18, sJ14_equals_19, sJ14_equals_20 k5 k6 d2, nn_i (by omega), b3 i (by omega), sJ14_equals_21]
    by_cases p : T.getD i 0 = U.getD i 0
    · rw [if_pos p, sJ14_equals_26, sJ14_equals_29, c_i1, ih (i + 1) (by omega), p]
      simp only [List.cons.injEq, true_and]
    · rw [if_neg p, sJ14_equals_24, sJ14_equals_25 rfl, if_neg (fun z => p (List.cons.inj z).1)]
theorem ba_eq (A : BA h a T) (B : BA h b U) : Cl r 167 [vR (some a), vR (some b)] h Q ↔ Q (Sum.inl (some (vI (if T = U then 1 else 0)))) h := by
  have L := fun hl => ba_eqL (r := r) (Q := Q) A B hl
  obtain ⟨a1, a2, a3, a4⟩ := A
  obtain ⟨b1, b2, b3, b4⟩ := B
  rw [eJ14_equals, sJ14_equals_0, sJ14_equals_1 (by omega) (by omega), sJ14_equals_2, sJ14_equals_3 (by omega) (by omega), a2, b2, iI_nI, iI_nI, sJ14_equals_4]
  by_cases p : T.length = U.length
  · rw [if_neg (by rw [p]; exact fun z => z rfl), sJ14_equals_7, sJ14_equals_8]
    have := L p T.length 0 (by omega)
    rw [List.drop_zero, List.drop_zero] at this
    exact this
  · rw [if_pos (by rw [ne_eq, iI_eq (by omega) (by omega) (by omega) (by omega)]; omega), sJ14_equals_34, sJ14_equals_35 rfl, if_neg (fun z => p (by rw [z]))]
theorem st_equals (s : RS h a b T) (t : RS h e k U) : Cl r 125 [vR (some a), vR (some e)] h Q ↔ Q (Sum.inl (some (vI (if T = U then 1 else 0)))) h := by
  have one : ¬ ((1 : Int32) = 0) := by decide
  have eq : ∀ Q, Cl r 167 [vR (some b), vR (some k)] h Q ↔ _ := fun Q => ba_eq s.ba t.ba
  have same : a = e → T = U := by
    rintro rfl
    have bk : b = k := Option.some.inj (s.2.2.1.symm.trans t.2.2.1)
    subst bk
    have l1 := s.2.2.2.2.1
    have l2 := t.2.2.2.2.1
    apply List.ext_getElem (by omega)
    intro i h1 h2
    have z1 := s.2.2.2.2.2.1 i h1
    have z2 := t.2.2.2.2.2.1 i h2
    rw [List.getD_eq_getElem?_getD, List.getElem?_eq_getElem h1] at z1
    rw [List.getD_eq_getElem?_getD, List.getElem?_eq_getElem h2] at z2
    exact z1.symm.trans z2
  obtain ⟨s1, s2, s3, s4, s5, s6, s7, s8⟩ := s
  obtain ⟨t1, t2, t3, t4, t5, t6, t7, t8⟩ := t
  have ke : hK h e ∈ [10, 11] := by
    have : hK h e = 10 ∨ hK h e = 11 := by omega
    rcases this with z | z <;> rw [z] <;> decide
  rw [eJ13_equals, sJ13_equals_0, sJ13_equals_1, sJ13_equals_2]
  by_cases p : a = e
  · rw [if_neg (by rw [p]; exact fun z => z rfl), sJ13_equals_5, sJ13_equals_6 rfl, if_pos (same p)]
  · rw [if_pos (fun z => p (Option.some.inj z))]
    simp only [sJ13_equals_7, sJ13_equals_8 ke, sJ13_equals_11, one, if_false, sJ13_equals_14, sJ13_equals_15 ke, sJ13_equals_18, sJ13_equals_19, sJ13_equals_22, sJ13_equals_25, sJ13_equals_26 s1 s2, sJ13_equals_29, sJ13_equals_30 t1 t2, s7, t7, sJ13_equals_33, ne_eq, not_true_eq_false, sJ13_equals_36, sJ13_equals_37 s1 s2, sJ13_equals_40, sJ13_equals_41 t1 t2, s3, t3, sJ13_equals_44, eq, Kt_v, sJ13_equals_47]
    by_cases q : T = U
    · rw [if_pos q, if_neg one, sJ13_equals_50, sJ13_equals_51, sJ13_equals_55 rfl]
    · rw [if_neg q, if_pos rfl, sJ13_equals_54, sJ13_equals_55 rfl]
theorem st_equalsN (s : RS h a b T) : Cl r 125 [vR (some a), vR none] h Q ↔ Q (Sum.inl (some (vI 0))) h := by
  rw [eJ13_equals, sJ13_equals_0, sJ13_equals_1, sJ13_equals_2, if_pos (by simp), sJ13_equals_7, sJ13_equals_8_n, sJ13_equals_11, if_pos rfl, sJ13_equals_54, sJ13_equals_55 rfl]
/-! the number of a text -/
theorem ba_hashL (A : BA h b T) {y : Int32} : ∀ (d i : Nat) (y : Int32), i + d = T.length →
    (Rn r 302 8 [some (vI y), some (vR (some b)), some (vI (iI 0)), some (vI (iI T.length)), some (vI (iI T.length)), some (vI (iI i))] [] h Q ↔ Q (Sum.inl (some (vI (hashT y (T.drop i))))) h) := by
  obtain ⟨b1, b2, b3, b4⟩ := A
  intro d
  induction d with
  | zero =>
    intro i y hi
    rw [sJ8_signedHashCode_8, sJ8_signedHashCode_10, sJ8_signedHashCode_12, if_pos (by rw [iI_le (by omega) (by omega) (by omega) (by omega)]; omega), sJ8_signedHashCode_35, sJ8_signedHashCode_36, List.drop_eq_nil_of_le (by omega)]
    rfl
  | succ d ih =>
    intro i y hi
    rw [sJ8_signedHashCode_8, sJ8_signedHashCode_10, sJ8_signedHashCode_12, if_neg (by rw [iI_le (by omega) (by omega) (by omega) (by omega)]; omega), sJ8_signedHashCode_15, sJ8_signedHashCode_17, sJ8_signedHashCode_18, sJ8_signedHashCode_19, sJ8_signedHashCode_20, sJ8_signedHashCode_22 (by omega) (by omega) (by rw [b2]; exact bd_i (by omega) (by omega)), nn_i (by omega), b3 i (by omega), sJ8_signedHashCode_23, sJ8_signedHashCode_26, sJ8_signedHashCode_27, sJ8_signedHashCode_28, sJ8_signedHashCode_29, c_i1, sJ8_signedHashCode_32, ih (i + 1) _ (by omega), dropE (d := 0) (i := i) (T := T) (by omega)]
    rfl
theorem ba_hash (A : BA h b T) : Cl r 249 [vR (some b)] h Q ↔ Q (Sum.inl (some (vI (hashS T)))) h := by
  have L := fun Q d i y e => ba_hashL (r := r) (Q := Q) A (y := 0) d i y e
  have A' := A
  obtain ⟨b1, b2, b3, b4⟩ := A
  have km : hK h b ∈ [44, 45] := by rcases b1 with z | z <;> rw [z] <;> decide
  rw [eJ14_hashCode, sJ14_hashCode_0, sJ14_hashCode_1 (by omega) (by omega), b2, iI_nI, sJ14_hashCode_2]
  have e0 : iI T.length = 0 ↔ T.length = 0 := by rw [i_0, iI_eq (by omega) (by omega) (by omega) (by omega)]; omega
  have e1 : iI T.length = 1 ↔ T.length = 1 := by rw [i_1, iI_eq (by omega) (by omega) (by omega) (by omega)]; omega
  by_cases p0 : T.length = 0
  · rw [if_pos (e0.mpr p0), sJ14_hashCode_28, sJ14_hashCode_29, sJ14_hashCode_51, List.length_eq_zero_iff.mp p0]
    rfl
  · rw [if_neg (fun z => p0 (e0.mp z))]
    by_cases p1 : T.length = 1
    · have d0 := bd_i (n := 0) (l := hL h b) (by omega) (by omega)
      obtain ⟨y, rfl⟩ := List.length_eq_one_iff.mp p1
      have b0 : hI h b 0 = y := b3 0 (by rw [p1]; decide)
      rw [if_pos (e1.mpr p1), sJ14_hashCode_32, sJ14_hashCode_33, sJ14_hashCode_34 (by omega) (by omega) (by exact d0), show ((0 : Int32)).toNatClampNeg = 0 from rfl, b0, sJ14_hashCode_35, sJ14_hashCode_38, sJ14_hashCode_39, sJ14_hashCode_51]
      show _ ↔ Q (Sum.inl (some (vI (31 * 0 + (y &&& 255))))) h
      rw [show (31 : Int32) * 0 = 0 from by decide, show ∀ z : Int32, 0 + z = z from fun z => by simp]
    · have ad : iI 0 + iI T.length = iI T.length := by rw [iI_add]; congr 1; omega
      rw [if_neg (fun z => p1 (e1.mp z)), sJ14_hashCode_42, sJ14_hashCode_43, sJ14_hashCode_44, sJ14_hashCode_45 (by omega) (by omega), b2, iI_nI, sJ14_hashCode_46, sJ14_hashCode_47, sJ14_hashCode_48, eJ8_vectorizedHashCode, sJ8_vectorizedHashCode_0, sJ8_vectorizedHashCode_2, if_pos rfl, sJ8_vectorizedHashCode_44, sJ8_vectorizedHashCode_45, sJ8_vectorizedHashCode_46 km, sJ8_vectorizedHashCode_49, sJ8_vectorizedHashCode_50, sJ8_vectorizedHashCode_51, eJ8_signedHashCode, sJ8_signedHashCode_0, sJ8_signedHashCode_1, sJ8_signedHashCode_2, i_0, ad, sJ8_signedHashCode_3, sJ8_signedHashCode_5, sJ8_signedHashCode_6]
      have := fun Q => L Q T.length 0 (iI 0) (by omega)
      rw [show iI ((0 : Nat) : Int) = iI 0 from rfl] at this
      rw [this, Kt_v, sJ8_vectorizedHashCode_54, sJ8_vectorizedHashCode_157, Kt_v, sJ14_hashCode_51, List.drop_zero]
      rfl
/-- the hidden fields of a text's number change -/
theorem CR_hash {j : Nat} {y : Int32} (c : CR h v) (ha : hK v.1 a = 10) (hj : (j = 2 ∧ y = hashS (vTx v a)) ∨ (j = 3 ∧ hashS (vTx v a) = 0)) : CR (putI h a j y) v := by
  have la := c.lt (a := a) (by rw [ha]; decide)
  have ka := c.kk ha (by decide)
  obtain ⟨g, c⟩ := c
  have ga := ((c.2.2.2.2 a la).1 (by rw [ha]; decide)).1
  obtain ⟨⟨b, b1, b2, b3, b4, b5⟩, t2, t3, t4, t5, t6, t7⟩ := (c.2.2.2.2 a la).2.2.2.2.1 (Or.inl ha)
  have ba : b ≠ a := by
    rintro rfl
    rcases b3 with z | z <;> omega
  refine ⟨g, CRg_up (a0 := a) c ⟨Nat.le_refl _, fun _ => rfl, fun d hd => ⟨rfl, rfl, rfl, fun q k => ⟨?_, rfl, rfl⟩⟩⟩ (fun d hd => ⟨rfl, fun _ => rfl, fun _ => ⟨rfl, fun _ => ⟨rfl, rfl, rfl⟩, rfl, rfl, rfl, rfl⟩⟩) (by rw [ka]; unfold shr; omega) (by rw [ka]; decide) (by rw [ka]; decide) c.1 c.2.1 c.2.2.1 ?_⟩
  · rw [hI_putI, if_neg (fun w => q (by rw [w.1, ga]))]
  · intro d hd q
    have q' : d = a := by
      rcases q with q | q
      · exact q
      · have : hN (putI h a j y) = hN h := rfl
        omega
    subst q'
    refine ⟨fun _ => ⟨ga, ka.trans ha.symm⟩, fun _ z => absurd (Or.inr (Or.inr (Or.inl ha))) z, fun z => by omega, fun z => by omega, fun _ => ?_, fun z => by omega⟩
    refine ⟨⟨b, b1, b2, b3, b4, fun i hi => by rw [hI_putI, if_neg (am_ne ba)]; exact b5 i hi⟩, ?_, t3, t4, ?_, ?_, fun z => by omega⟩
    · rw [hI_putI, if_neg (fun w => by have := w.2; omega)]; exact t2
    · rw [hI_putI]
      split
      · rcases hj with z | z
        · exact Or.inr z.2
        · rename_i w
          have := w.2
          omega
      · exact t5
    · rw [hI_putI]
      split
      · rcases hj with z | z
        · rename_i w
          have := w.2
          omega
        · exact fun _ => z.2
      · exact t6
theorem v_hash (c : CR h v) (ha : hK v.1 a = 10 ∨ hK v.1 a = 11) (q : ∀ h', CR h' v → (h' = h ∨ ∃ j y, h' = putI h a j y) → Q (Sum.inl (some (vI (hashS (vTx v a))))) h') : Cl r 191 [vR (some a)] h Q := by
  obtain ⟨b, S, bn, _⟩ := c.rs ha
  have lat : ∀ Q, Cl r 212 [vR (some a)] h Q ↔ _ := fun Q => st_lat S
  have hs : ∀ Q, Cl r 249 [vR (some b)] h Q ↔ _ := fun Q => ba_hash S.ba
  obtain ⟨b', b1, b2, b3, b4, b5, b6, b7, b8, b9, b10, b11, b12⟩ := c.tx ha
  obtain ⟨s1, s2, s3, s4, s5, s6, s7, s8⟩ := S
  have one : ¬ ((1 : Int32) = 0) := by decide
  rw [eJ13_hashCode, sJ13_hashCode_0, sJ13_hashCode_1 s1 s2, sJ13_hashCode_4, sJ13_hashCode_5, sJ13_hashCode_6]
  by_cases p : hI h a 2 = 0
  · rw [p, if_neg (fun z => z rfl), sJ13_hashCode_9, sJ13_hashCode_10 s1 s2, sJ13_hashCode_13]
    by_cases p2 : hI h a 3 = 0
    · rw [if_neg (fun z => z p2), sJ13_hashCode_16, sJ13_hashCode_17 s1 s2, lat, Kt_v, sJ13_hashCode_20, if_neg one, sJ13_hashCode_23, sJ13_hashCode_24 s1 s2, s3, sJ13_hashCode_27, hs, Kt_v, sJ13_hashCode_30, sJ13_hashCode_40, sJ13_hashCode_41, sJ13_hashCode_42]
      have k10 : hK v.1 a = 10 := by
        rcases ha with z | z
        · exact z
        · rcases b11 z with w | w
          · exact absurd p w
          · exact absurd p2 w
      have kk : hK h a = 10 := by omega
      by_cases p3 : hashS (vTx v a) = 0
      · rw [if_neg (fun z => z p3), sJ13_hashCode_45, sJ13_hashCode_46, sJ13_hashCode_47 kk rfl, sJ13_hashCode_50, sJ13_hashCode_58, sJ13_hashCode_59]
        exact q _ (CR_hash c k10 (Or.inr ⟨rfl, p3⟩)) (Or.inr ⟨_, _, rfl⟩)
      · rw [if_pos p3, sJ13_hashCode_53, sJ13_hashCode_54, sJ13_hashCode_55 kk, sJ13_hashCode_58, sJ13_hashCode_59]
        exact q _ (CR_hash c k10 (Or.inl ⟨rfl, rfl⟩)) (Or.inr ⟨_, _, rfl⟩)
    · rw [if_pos p2, sJ13_hashCode_58, sJ13_hashCode_59, ← b10 p2]
      exact q _ c (Or.inl rfl)
  · rw [if_pos p, sJ13_hashCode_58, sJ13_hashCode_59]
    rcases b9 with z | z
    · exact absurd z p
    · rw [z]
      exact q _ c (Or.inl rfl)
end TX2
