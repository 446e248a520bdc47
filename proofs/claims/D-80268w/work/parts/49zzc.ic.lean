/-! JDK: texts, 4: a letter within a text *-/
def fndC (T : List Int32) (y : Int32) : Nat → Nat → Int
  | 0, _ => -1
  | d + 1, i => if T.getD i 0 = y then (i : Int) else fndC T y d (i + 1)
section TX4
variable {r a b e n k i : Nat} {h : am_H} {v : vT} {Q : am_O → am_H → Prop} {x : Int} {T U V S : List Int32}
theorem fndC_lo (T : List Int32) (y : Int32) : ∀ d i, -1 ≤ fndC T y d i ∧ fndC T y d i < i + d ∨ fndC T y d i = -1 := by
  intro d
  induction d with
  | zero => intro i; exact Or.inr rfl
  | succ d ih =>
    intro i
    rw [fndC]
    split
    · left; omega
    · rcases ih (i + 1) with z | z
      · left; omega
      · exact Or.inr z
theorem fndC_mem (T : List Int32) (y : Int32) : ∀ d i, i + d = T.length → (0 ≤ fndC T y d i ↔ y ∈ T.drop i) := by
  intro d
  induction d with
  | zero =>
    intro i hi
    rw [List.drop_eq_nil_of_le (by omega)]
    simp [fndC]
  | succ d ih =>
    intro i hi
    rw [fndC, dropE (d := 0) (by omega), List.mem_cons]
    by_cases p : T.getD i 0 = y
    · rw [if_pos p]
      exact ⟨fun _ => Or.inl p.symm, fun _ => by omega⟩
    · rw [if_neg p, ih (i + 1) (by omega)]
      exact ⟨Or.inr, fun z => z.resolve_left (fun w => p w.symm)⟩
theorem ic_all {y z : Int32} (A : BA h a T) : ∀ (d i : Nat), i + d = T.length →
    (Rn r 267 7 [some (vR (some a)), some (vI z), some (vI 0), some (vI (iI T.length)), some (vI y), some (vI (iI i))] [] h Q ↔ Q (Sum.inl (some (vI (iI (fndC T y d i))))) h) := by
  obtain ⟨a1, a2, a3, a4⟩ := A
  intro d
  induction d with
  | zero =>
    intro i hi
    rw [sJ14_indexOfChar_7, sJ14_indexOfChar_9, sJ14_indexOfChar_10, if_pos (by rw [iI_le (by omega) (by omega) (by omega) (by omega)]; omega), sJ14_indexOfChar_31, sJ14_indexOfChar_32]
    rfl
  | succ d ih =>
    intro i hi
    rw [sJ14_indexOfChar_7, sJ14_indexOfChar_9, sJ14_indexOfChar_10, if_neg (by rw [iI_le (by omega) (by omega) (by omega) (by omega)]; omega), sJ14_indexOfChar_13, sJ14_indexOfChar_14, sJ14_indexOfChar_16 (by omega) (by omega) (by rw [a2]; exact bd_i (by omega) (by omega)), nn_i (by omega), a3 _ (by omega), sJ14_indexOfChar_17, sJ14_indexOfChar_19, fndC]
    by_cases p : T.getD i 0 = y
    · rw [if_neg (fun z => z p), if_pos p, sJ14_indexOfChar_22, sJ14_indexOfChar_24]
    · rw [if_pos p, if_neg p, sJ14_indexOfChar_25, c_i1, sJ14_indexOfChar_28, ih (i + 1) (by omega)]
theorem st_indexOf (s : RS h a b T) (x1 : -128 ≤ x) (x2 : x ≤ 127) (t1 : 1 ≤ T.length) (q : ∀ m : Int, -1 ≤ m → m < 1000 → (0 ≤ m ↔ (0 ≤ x ∧ iI x ∈ T)) → Q (Sum.inl (some (vI (iI m)))) h) : Cl r 124 [vR (some a), vI (iI x)] h Q := by
  have one : ¬ ((1 : Int32) = 0) := by decide
  have lat : ∀ Q, Cl r 212 [vR (some a)] h Q ↔ _ := fun Q => st_lat s
  have len : ∀ Q, Cl r 213 [vR (some a)] h Q ↔ _ := fun Q => st_length s
  have ic := fun Q => ic_all (r := r) (Q := Q) (y := (iI x).toInt8.toInt32) (z := iI x) s.ba T.length 0 (by omega)
  have M := fndC_mem T (iI x) T.length 0 (by omega)
  have F := fndC_lo T (iI x) T.length 0
  rw [List.drop_zero] at M
  obtain ⟨p1, p2, p3, p4, p5, p6, p7, p8⟩ := s
  have k1 : 40 ≤ hK h b := by omega
  have k2 : hK h b ≤ 49 := by omega
  by_cases p : x < 0
  · have c1 : iI x < (0 : Int32) := by rw [i_0, iI_lt (by omega) (by omega) (by omega) (by omega)]; omega
    have ce : ∀ Q, Cl r 265 [vI (iI x)] h Q ↔ Q (Sum.inl (some (vI 0))) h := fun Q => by
      simp only [eJ14_canEncode_2, sJ14_canEncode_2_0, sJ14_canEncode_2_1, sJ14_canEncode_2_4, sJ14_canEncode_2_5, sJ14_canEncode_2_8, sJ14_canEncode_2_11, sJ14_canEncode_2_12, sJ14_canEncode_2_15, sJ14_canEncode_2_16, c1, if_true, show am_fit 4 0 = true from rfl]
    simp only [eJ13_indexOf, sJ13_indexOf_0, sJ13_indexOf_1, sJ13_indexOf_2, sJ13_indexOf_3, sJ13_indexOf_6, p1, p2, eJ13_indexOf_2, sJ13_indexOf_2_0, sJ13_indexOf_2_1, sJ13_indexOf_2_4, sJ13_indexOf_2_7, sJ13_indexOf_2_8, sJ13_indexOf_2_11, sJ13_indexOf_2_12, sJ13_indexOf_2_13, sJ13_indexOf_2_14, sJ13_indexOf_2_17, sJ13_indexOf_2_20, sJ13_indexOf_2_23, sJ13_indexOf_2_24, sJ13_indexOf_2_27, sJ13_indexOf_2_28, sJ13_indexOf_2_29, sJ13_indexOf_2_30, sJ13_indexOf_2_36, lat, Kt_v, one, if_false, p3, len, eJ14_indexOf, sJ14_indexOf_0, sJ14_indexOf_1, sJ14_indexOf_4, sJ14_indexOf_7, sJ14_indexOf_8, sJ14_indexOf_9, sJ14_indexOf_10, sJ14_indexOf_11, sJ14_indexOf_14, sJ14_indexOf_15, sJ14_indexOf_16, sJ14_indexOf_17, sJ14_indexOf_18, sJ14_indexOf_21, sJ14_indexOf_22, sJ14_indexOf_23, sJ14_indexOf_24, sJ14_indexOf_27, sJ14_indexOf_28, sJ14_indexOf_29, sJ14_indexOf_30, sJ14_indexOf_31, sJ14_indexOf_32, sJ14_indexOf_33, sJ14_indexOf_36, ce, ne_eq, not_true_eq_false]
    exact q (-1) (by omega) (by omega) ⟨fun z => by omega, fun z => by omega⟩
  · have c1 : ¬ iI x < (0 : Int32) := by rw [i_0, iI_lt (by omega) (by omega) (by omega) (by omega)]; omega
    have c2 : ¬ (255 : Int32) < iI x := by rw [i_255, iI_lt (by omega) (by omega) (by omega) (by omega)]; omega
    have ce : ∀ Q, Cl r 265 [vI (iI x)] h Q ↔ Q (Sum.inl (some (vI 1))) h := fun Q => by
      simp only [eJ14_canEncode_2, sJ14_canEncode_2_0, sJ14_canEncode_2_1, sJ14_canEncode_2_4, sJ14_canEncode_2_5, sJ14_canEncode_2_8, sJ14_canEncode_2_11, sJ14_canEncode_2_12, sJ14_canEncode_2_15, sJ14_canEncode_2_16, c1, c2, if_false, show am_fit 4 1 = true from rfl]
    have m1 : ∀ Q, Cl r 266 [vI 0, vI 0] h Q ↔ Q (Sum.inl (some (vI 0))) h := fun Q => by
      have := jd_max (r := r) (h := h) (Q := Q) (a := 0) (b := 0) (by omega) (by omega) (by omega) (by omega)
      exact this
    have m2 : ∀ Q, Cl r 246 [vI (iI T.length), vI (iI T.length)] h Q ↔ _ := fun Q => jd_min (by omega) (by omega) (by omega) (by omega)
    rw [if_neg (by omega)] at m2
    have c3 : (0 : Int32) < iI T.length := by rw [i_0, iI_lt (by omega) (by omega) (by omega) (by omega)]; omega
    have c4 : (iI x).toInt8.toInt32 = iI x := by
      have : ∀ y : Fin 128, (iI ((y.val : Nat) : Int)).toInt8.toInt32 = iI ((y.val : Nat) : Int) := by decide
      have := this ⟨x.toNat, by omega⟩
      rw [show ((x.toNat : Nat) : Int) = x by omega] at this
      exact this
    simp only [eJ13_indexOf, sJ13_indexOf_0, sJ13_indexOf_1, sJ13_indexOf_2, sJ13_indexOf_3, sJ13_indexOf_6, p1, p2, eJ13_indexOf_2, sJ13_indexOf_2_0, sJ13_indexOf_2_1, sJ13_indexOf_2_4, sJ13_indexOf_2_7, sJ13_indexOf_2_8, sJ13_indexOf_2_11, sJ13_indexOf_2_12, sJ13_indexOf_2_13, sJ13_indexOf_2_14, sJ13_indexOf_2_17, sJ13_indexOf_2_20, sJ13_indexOf_2_23, sJ13_indexOf_2_24, sJ13_indexOf_2_27, sJ13_indexOf_2_28, sJ13_indexOf_2_29, sJ13_indexOf_2_30, sJ13_indexOf_2_36, lat, Kt_v, one, if_false, p3, len, eJ14_indexOf, sJ14_indexOf_0, sJ14_indexOf_1, sJ14_indexOf_4, sJ14_indexOf_7, sJ14_indexOf_8, sJ14_indexOf_9, sJ14_indexOf_10, sJ14_indexOf_11, sJ14_indexOf_14, sJ14_indexOf_15, sJ14_indexOf_16, sJ14_indexOf_17, sJ14_indexOf_18, sJ14_indexOf_21, sJ14_indexOf_22, sJ14_indexOf_23, sJ14_indexOf_24, sJ14_indexOf_27, sJ14_indexOf_28, sJ14_indexOf_29, sJ14_indexOf_30, sJ14_indexOf_31, sJ14_indexOf_32, sJ14_indexOf_33, sJ14_indexOf_36, ce, ne_eq, not_false_eq_true, if_true, m1, m2, k1, k2, p5, iI_nI, c3, eJ14_indexOfChar, sJ14_indexOfChar_0, sJ14_indexOfChar_1, sJ14_indexOfChar_2, sJ14_indexOfChar_4, sJ14_indexOfChar_5]
    rw [c4] at ic ⊢
    have := ic (Kt r 214 36 [some (vR (some b)), some (vI (iI x)), some (vI 0), some (vI (iI T.length))] [] (Kt r 166 20 [some (vR (some a)), some (vI (iI x)), some (vI 0)] [] (Kt r 124 6 [some (vR (some a)), some (vI (iI x))] [] Q)))
    rw [show iI ((0 : Nat) : Int) = 0 from rfl] at this
    rw [this]
    simp only [Kt_v, sJ14_indexOf_36, sJ13_indexOf_2_20, sJ13_indexOf_2_23, sJ13_indexOf_2_24, sJ13_indexOf_2_27, sJ13_indexOf_2_28, sJ13_indexOf_2_29, sJ13_indexOf_2_30, sJ13_indexOf_2_36, sJ13_indexOf_6]
    exact q _ (by omega) (by omega) ⟨fun z => ⟨by omega, M.mp z⟩, fun z => M.mpr z.2⟩
end TX4
