/-! JDK: where two rows of eight bytes differ *-/
section VMS
variable {r a b n k : Nat} {h : am_H} {Q : am_O → am_H → Prop}
theorem lowEx : ∀ X : Nat, 0 < X → ∃ n k, X = 2 ^ n * (2 * k + 1) := by
  intro X
  induction X using Nat.strongRecOn with
  | ind X ih =>
    intro h
    by_cases p : X % 2 = 1
    · exact ⟨0, X / 2, by omega⟩
    · obtain ⟨n, k, e⟩ := ih (X / 2) (by omega) (by omega)
      refine ⟨n + 1, k, ?_⟩
      rw [Nat.pow_succ, Nat.mul_right_comm, ← e]
      omega
theorem low_between {X n k j Y : Nat} (e : X = 2 ^ n * (2 * k + 1)) (f : X = 2 ^ (8 * j) * Y) (hy : Y % 256 ≠ 0) : 8 * j ≤ n ∧ n < 8 * j + 8 := by
  constructor
  · refine Classical.byContradiction fun q => ?_
    have e1 : 2 ^ (8 * j) = 2 ^ n * (2 * 2 ^ (8 * j - n - 1)) := by
      rw [Nat.mul_comm 2, ← Nat.pow_succ, ← Nat.pow_add]
      congr 1
      omega
    rw [e1, Nat.mul_assoc, e] at f
    have := Nat.eq_of_mul_eq_mul_left (Nat.two_pow_pos n) f
    rw [Nat.mul_assoc] at this
    omega
  · refine Classical.byContradiction fun q => ?_
    have e1 : 2 ^ n = 2 ^ (8 * j) * (256 * 2 ^ (n - 8 * j - 8)) := by
      rw [show (256 : Nat) = 2 ^ 8 from rfl, ← Nat.pow_add, ← Nat.pow_add]
      congr 1
      omega
    rw [e1, Nat.mul_assoc, f] at e
    have := Nat.eq_of_mul_eq_mul_left (Nat.two_pow_pos (8 * j)) e
    rw [Nat.mul_assoc] at this
    rw [this, Nat.mul_mod_right] at hy
    exact hy rfl
theorem i64_lo (x : Int64) : x.toInt32.toBitVec.toNat = x.toBitVec.toNat % 2 ^ 32 := by
  have : x.toInt32.toBitVec = x.toBitVec.signExtend 32 := rfl
  rw [this, BitVec.signExtend_eq_setWidth_of_le _ (by decide), BitVec.toNat_setWidth]
theorem i64_hi (x : Int64) : (x.toUInt64 >>> ((32 : Int32).toInt64.toUInt64 &&& Int64.toUInt64 63)).toInt64.toBitVec.toNat = x.toBitVec.toNat / 2 ^ 32 := by
  have : (x.toUInt64 >>> ((32 : Int32).toInt64.toUInt64 &&& Int64.toUInt64 63)).toInt64.toBitVec = x.toBitVec >>> (((32 : Int32).toInt64.toUInt64 &&& Int64.toUInt64 63).toBitVec % 64) := rfl
  rw [this, show (((32 : Int32).toInt64.toUInt64 &&& Int64.toUInt64 63).toBitVec % 64) = 32#64 from by decide, BitVec.ushiftRight_eq', BitVec.toNat_ushiftRight, Nat.shiftRight_eq_div_pow]
  rfl
theorem l_ntz {x : Int64} (e : x.toBitVec.toNat = 2 ^ n * (2 * k + 1)) (hn : n < 64) : Cl r 316 [vL x] h Q ↔ Q (Sum.inl (some (vI (iI n)))) h := by
  rw [eJ17_numberOfTrailingZeros, sJ17_numberOfTrailingZeros_0, sJ17_numberOfTrailingZeros_1, sJ17_numberOfTrailingZeros_2, sJ17_numberOfTrailingZeros_3, sJ17_numberOfTrailingZeros_4]
  have hX := x.toBitVec.isLt
  by_cases p : n < 32
  · have l : lowB x.toInt32 n := by
      refine ⟨k % 2 ^ (31 - n), ?_⟩
      rw [i64_lo, e]
      have : 2 ^ 32 = 2 ^ n * 2 ^ (32 - n) := by rw [← Nat.pow_add]; congr 1; omega
      rw [this, Nat.mul_mod_mul_left]
      congr 1
      rw [show 32 - n = (31 - n) + 1 by omega, Nat.pow_succ, Nat.mul_comm (2 ^ (31 - n)) 2, Nat.mod_mul, show (2 * k + 1) / 2 = k by omega]
      omega
    have nz : x.toInt32 ≠ 0 := by
      intro z
      obtain ⟨k', e'⟩ := l
      rw [z] at e'
      have : 0 < 2 ^ n * (2 * k' + 1) := Nat.mul_pos (Nat.two_pow_pos n) (by omega)
      rw [← e'] at this
      exact absurd this (by decide)
    rw [if_pos nz, sJ17_numberOfTrailingZeros_21, sJ17_numberOfTrailingZeros_22, v_ntz l, Kt_v, sJ17_numberOfTrailingZeros_25]
  · have e1 : 2 ^ n = 2 ^ 32 * 2 ^ (n - 32) := by rw [← Nat.pow_add]; congr 1; omega
    have z : ¬ x.toInt32 ≠ 0 := by
      intro z
      apply z
      apply Int32.toBitVec.inj
      apply BitVec.eq_of_toNat_eq
      rw [i64_lo, e, e1, Nat.mul_assoc, Nat.mul_mod_right]
      rfl
    have l : lowB (x.toUInt64 >>> ((32 : Int32).toInt64.toUInt64 &&& Int64.toUInt64 63)).toInt64.toInt32 (n - 32) := by
      refine ⟨k, ?_⟩
      rw [i64_lo, i64_hi, e, e1, Nat.mul_assoc, Nat.mul_div_cancel_left _ (by decide)]
      refine Nat.mod_eq_of_lt ?_
      rw [e, e1, Nat.mul_assoc] at hX
      omega
    have ad : (32 : Int32) + iI ((n - 32 : Nat) : Int) = iI n := by
      rw [show (32 : Int32) = iI 32 from rfl, iI_add]
      congr 1
      omega
    rw [if_neg z, sJ17_numberOfTrailingZeros_7, sJ17_numberOfTrailingZeros_9, sJ17_numberOfTrailingZeros_10, sJ17_numberOfTrailingZeros_12, sJ17_numberOfTrailingZeros_13, sJ17_numberOfTrailingZeros_14, v_ntz l, Kt_v, sJ17_numberOfTrailingZeros_17, ad, sJ17_numberOfTrailingZeros_18, sJ17_numberOfTrailingZeros_25]
theorem gl_un {y : Int64} (ka : hK h a = 44) (la : 8 ≤ hL h a) (ku : b = hE h 33) (hy : y = 16) : Cl r 315 [vR (some b), vR (some a), vL y] h Q ↔ Q (Sum.inl (some (vL (am_le8 (hI h a))))) h := by
  subst hy
  have c : ¬ lg_cmp ((16 : Int64) &&& 7) 0 ≠ 0 := by decide
  rw [eJ16_getLongUnaligned, sJ16_getLongUnaligned_0, sJ16_getLongUnaligned_1, sJ16_getLongUnaligned_4, sJ16_getLongUnaligned_5, sJ16_getLongUnaligned_6, sJ16_getLongUnaligned_7, if_neg c, sJ16_getLongUnaligned_10, sJ16_getLongUnaligned_11, sJ16_getLongUnaligned_12, sJ16_getLongUnaligned_13 ku ka la, sJ16_getLongUnaligned_16]
theorem vm8 (ka : hK h a = 44) (kb : hK h b = 44) (la : 8 ≤ hL h a) (lb : 8 ≤ hL h b) (ku : hE h 33 = hE h 33) (p : am_le8 (hI h a) ≠ am_le8 (hI h b))
    (nz : ∀ Q, Cl r 316 [vL (am_le8 (hI h a) ^^^ am_le8 (hI h b))] h Q ↔ Q (Sum.inl (some (vI (iI n)))) h) (n64 : n < 64) :
    Cl r 314 [vR (some a), vL 16, vR (some b), vL 16, vI 8, vI 0] h Q ↔ Q (Sum.inl (some (vI (iI ((n / 8 : Nat) : Int))))) h := by
  have z16 : (16 : Int64) + (0 : Int32).toInt64 <<< ((3 : Int32).toInt64 &&& 63) = 16 := by decide
  have g1 : ∀ Q, Cl r 315 [vR (some (hE h 33)), vR (some a), vL ((16 : Int64) + (0 : Int32).toInt64 <<< ((3 : Int32).toInt64 &&& 63))] h Q ↔ _ := fun Q => gl_un ka la rfl z16
  have g2 : ∀ Q, Cl r 315 [vR (some (hE h 33)), vR (some b), vL ((16 : Int64) + (0 : Int32).toInt64 <<< ((3 : Int32).toInt64 &&& 63))] h Q ↔ _ := fun Q => gl_un kb lb rfl z16
  have c1 : ¬ (8 : Int32) >>> (((3 : Int32) - 0) &&& 31) ≤ 0 := by decide
  rw [eJ8_vectorizedMismatch]
  simp only [sJ8_vectorizedMismatch_0, sJ8_vectorizedMismatch_3, sJ8_vectorizedMismatch_5, sJ8_vectorizedMismatch_6, sJ8_vectorizedMismatch_8, sJ8_vectorizedMismatch_9, sJ8_vectorizedMismatch_11, sJ8_vectorizedMismatch_13, sJ8_vectorizedMismatch_15, sJ8_vectorizedMismatch_17]
  rw [sJ8_vectorizedMismatch_18, if_neg c1]
  simp only [sJ8_vectorizedMismatch_21, sJ8_vectorizedMismatch_23, sJ8_vectorizedMismatch_24, sJ8_vectorizedMismatch_27, sJ8_vectorizedMismatch_28, sJ8_vectorizedMismatch_30, sJ8_vectorizedMismatch_33, sJ8_vectorizedMismatch_34, sJ8_vectorizedMismatch_35, sJ8_vectorizedMismatch_37, sJ8_vectorizedMismatch_38, sJ8_vectorizedMismatch_41, sJ8_vectorizedMismatch_43, sJ8_vectorizedMismatch_46, sJ8_vectorizedMismatch_47, sJ8_vectorizedMismatch_49, sJ8_vectorizedMismatch_51, sJ8_vectorizedMismatch_52, sJ8_vectorizedMismatch_55, sJ8_vectorizedMismatch_57, sJ8_vectorizedMismatch_59, sJ8_vectorizedMismatch_61, g1, g2, Kt_v]
  rw [sJ8_vectorizedMismatch_62]
  have fin : (0 : Int32) <<< (((3 : Int32) - 0) &&& 31) + iI n >>> (((3 : Int32) + 0) &&& 31) = iI ((n / 8 : Nat) : Int) := by
    have : ∀ k : Fin 64, (0 : Int32) <<< (((3 : Int32) - 0) &&& 31) + iI ((k.val : Nat) : Int) >>> (((3 : Int32) + 0) &&& 31) = iI ((k.val / 8 : Nat) : Int) := by decide
    exact this ⟨n, n64⟩
  rw [if_neg (fun z => p (lc_eq.mp z))]
  simp only [sJ8_vectorizedMismatch_65, sJ8_vectorizedMismatch_67, sJ8_vectorizedMismatch_69, sJ8_vectorizedMismatch_70, sJ8_vectorizedMismatch_72]
  rw [sJ8_vectorizedMismatch_75, if_pos rfl]
  simp only [sJ8_vectorizedMismatch_93, sJ8_vectorizedMismatch_95, sJ8_vectorizedMismatch_98, sJ8_vectorizedMismatch_101, sJ8_vectorizedMismatch_103, sJ8_vectorizedMismatch_104, sJ8_vectorizedMismatch_105, sJ8_vectorizedMismatch_107, sJ8_vectorizedMismatch_109, sJ8_vectorizedMismatch_111, sJ8_vectorizedMismatch_112, sJ8_vectorizedMismatch_114, sJ8_vectorizedMismatch_115, nz, Kt_v, fin]
end VMS
