/-! JDK: the lowest bit of a number *-/
section NTZ
variable {r : Nat} {h : am_H} {Q : am_O → am_H → Prop}
theorem nat_low (X n k : Nat) (e : X = 2 ^ n * (2 * k + 1)) (hX : X < 2 ^ 32) : (2 ^ 32 - 1 - X) &&& (X - 1) = 2 ^ n - 1 := by
  have h2 : 0 < 2 ^ n := Nat.two_pow_pos n
  apply Nat.eq_of_testBit_eq
  intro i
  have e1 : X - 1 = 2 ^ n * (2 * k) + (2 ^ n - 1) := by
    rw [e, Nat.mul_add]
    omega
  have e2 : X = 2 ^ n * (2 * k + 1) + 0 := by omega
  rw [Nat.testBit_and, show 2 ^ 32 - 1 - X = 2 ^ 32 - (X + 1) by omega, Nat.testBit_two_pow_sub_succ hX, Nat.testBit_two_pow_sub_one]
  have b1 : (X - 1).testBit i = if i < n then (2 ^ n - 1).testBit i else (2 * k).testBit (i - n) := by
    rw [e1, Nat.testBit_two_pow_mul_add _ (by omega)]
  have b2 : X.testBit i = if i < n then (0 : Nat).testBit i else (2 * k + 1).testBit (i - n) := by
    conv => lhs; rw [e2]
    rw [Nat.testBit_two_pow_mul_add _ h2]
  have n32 : n < 32 := by
    refine Classical.byContradiction fun q => ?_
    have : 2 ^ 32 ≤ 2 ^ n := Nat.pow_le_pow_right (by decide) (by omega)
    have : 2 ^ n * 1 ≤ 2 ^ n * (2 * k + 1) := Nat.mul_le_mul_left _ (by omega)
    omega
  rw [b1, b2]
  by_cases p : i < n
  · rw [if_pos p, if_pos p, Nat.zero_testBit, Nat.testBit_two_pow_sub_one]
    simp [p]
    omega
  · rw [if_neg p, if_neg p]
    simp only [p, decide_false]
    cases hj : i - n with
    | zero => simp
    | succ j =>
      rw [Nat.testBit_succ, Nat.testBit_succ, show 2 * k / 2 = k by omega, show (2 * k + 1) / 2 = k by omega]
      cases k.testBit j <;> simp
/-- the lowest bit of x is bit n -/
def lowB (x : Int32) (n : Nat) : Prop := ∃ k, x.toBitVec.toNat = 2 ^ n * (2 * k + 1)
theorem lowB_lt {x : Int32} {n : Nat} (l : lowB x n) : n < 32 := by
  obtain ⟨k, e⟩ := l
  refine Classical.byContradiction fun q => ?_
  have : 2 ^ 32 ≤ 2 ^ n := Nat.pow_le_pow_right (by decide) (by omega)
  have : 2 ^ n * 1 ≤ 2 ^ n * (2 * k + 1) := Nat.mul_le_mul_left _ (by omega)
  have := x.toBitVec.isLt
  omega
theorem low_msk {x : Int32} {n : Nat} (l : lowB x n) : (x ^^^ (-1)) &&& (x - 1) = iI ((2 ^ n - 1 : Nat) : Int) := by
  obtain ⟨k, e⟩ := l
  have hX := x.toBitVec.isLt
  have h2 : 0 < 2 ^ n := Nat.two_pow_pos n
  have pos : 0 < x.toBitVec.toNat := by
    rw [e]
    exact Nat.mul_pos h2 (by omega)
  have key := nat_low _ n k e hX
  apply Int32.toBitVec.inj
  apply BitVec.eq_of_toNat_eq
  rw [← iI_nI]
  show ((x.toBitVec ^^^ (-1 : Int32).toBitVec) &&& (x.toBitVec - (1 : Int32).toBitVec)).toNat = (BitVec.ofNat 32 (2 ^ n - 1)).toNat
  have a1 : (x.toBitVec ^^^ (-1 : Int32).toBitVec) = ~~~ x.toBitVec := by
    rw [show (-1 : Int32).toBitVec = BitVec.allOnes 32 from by decide, BitVec.xor_allOnes]
  have a2 : (x.toBitVec - (1 : Int32).toBitVec).toNat = x.toBitVec.toNat - 1 := by
    rw [BitVec.toNat_sub, show (1 : Int32).toBitVec.toNat = 1 from by decide]
    omega
  rw [a1, BitVec.toNat_and, BitVec.toNat_not, a2, BitVec.toNat_ofNat]
  have n32 : 2 ^ n ≤ 2 ^ 32 := by
    refine Nat.pow_le_pow_right (by decide) ?_
    refine Classical.byContradiction fun q => ?_
    have : 2 ^ 32 ≤ 2 ^ n := Nat.pow_le_pow_right (by decide) (by omega)
    have : 2 ^ n * 1 ≤ 2 ^ n * (2 * k + 1) := Nat.mul_le_mul_left _ (by omega)
    omega
  rw [Nat.mod_eq_of_lt (by omega)]
  exact key
def us (x : Int32) (k : Int32) : Int32 := (x.toUInt32 >>> (k.toUInt32 &&& Int32.toUInt32 31)).toInt32
def nz1 (c k : Int32) (p : Int32 × Int32) : Int32 × Int32 := if p.1 ≤ c then p else (us p.1 k, p.2 + k)
def nzR (x : Int32) : Int32 := (nz1 4 2 (nz1 16 4 (nz1 256 8 (nz1 65536 16 (x, 1))))).2 + us (nz1 4 2 (nz1 16 4 (nz1 256 8 (nz1 65536 16 (x, 1))))).1 1
theorem nz_a {p : Int32 × Int32} : Rn r 301 19 [some (vI p.1), some (vI p.2)] [] h Q ↔ Rn r 301 34 [some (vI (nz1 65536 16 p).1), some (vI (nz1 65536 16 p).2)] [] h Q := by
  rw [sJ12_numberOfTrailingZeros_19, sJ12_numberOfTrailingZeros_20, sJ12_numberOfTrailingZeros_23]
  unfold nz1
  by_cases c : p.1 ≤ 65536
  · rw [if_pos c, if_pos c]
  · rw [if_neg c, if_neg c, sJ12_numberOfTrailingZeros_26, sJ12_numberOfTrailingZeros_29, sJ12_numberOfTrailingZeros_30, sJ12_numberOfTrailingZeros_32, sJ12_numberOfTrailingZeros_33]
    rfl
theorem nz_b {p : Int32 × Int32} : Rn r 301 34 [some (vI p.1), some (vI p.2)] [] h Q ↔ Rn r 301 49 [some (vI (nz1 256 8 p).1), some (vI (nz1 256 8 p).2)] [] h Q := by
  rw [sJ12_numberOfTrailingZeros_34, sJ12_numberOfTrailingZeros_35, sJ12_numberOfTrailingZeros_38]
  unfold nz1
  by_cases c : p.1 ≤ 256
  · rw [if_pos c, if_pos c]
  · rw [if_neg c, if_neg c, sJ12_numberOfTrailingZeros_41, sJ12_numberOfTrailingZeros_44, sJ12_numberOfTrailingZeros_45, sJ12_numberOfTrailingZeros_47, sJ12_numberOfTrailingZeros_48]
    rfl
theorem nz_c {p : Int32 × Int32} : Rn r 301 49 [some (vI p.1), some (vI p.2)] [] h Q ↔ Rn r 301 62 [some (vI (nz1 16 4 p).1), some (vI (nz1 16 4 p).2)] [] h Q := by
  rw [sJ12_numberOfTrailingZeros_49, sJ12_numberOfTrailingZeros_50, sJ12_numberOfTrailingZeros_52]
  unfold nz1
  by_cases c : p.1 ≤ 16
  · rw [if_pos c, if_pos c]
  · rw [if_neg c, if_neg c, sJ12_numberOfTrailingZeros_55, sJ12_numberOfTrailingZeros_58, sJ12_numberOfTrailingZeros_59, sJ12_numberOfTrailingZeros_60, sJ12_numberOfTrailingZeros_61]
    rfl
theorem nz_d {p : Int32 × Int32} : Rn r 301 62 [some (vI p.1), some (vI p.2)] [] h Q ↔ Rn r 301 74 [some (vI (nz1 4 2 p).1), some (vI (nz1 4 2 p).2)] [] h Q := by
  rw [sJ12_numberOfTrailingZeros_62, sJ12_numberOfTrailingZeros_63, sJ12_numberOfTrailingZeros_64]
  unfold nz1
  by_cases c : p.1 ≤ 4
  · rw [if_pos c, if_pos c]
  · rw [if_neg c, if_neg c, sJ12_numberOfTrailingZeros_67, sJ12_numberOfTrailingZeros_70, sJ12_numberOfTrailingZeros_71, sJ12_numberOfTrailingZeros_72, sJ12_numberOfTrailingZeros_73]
    rfl
theorem v_ntz {x : Int32} {n : Nat} (l : lowB x n) : Cl r 301 [vI x] h Q ↔ Q (Sum.inl (some (vI (iI n)))) h := by
  have n32 := lowB_lt l
  have m := low_msk l
  rw [eJ12_numberOfTrailingZeros, sJ12_numberOfTrailingZeros_0, sJ12_numberOfTrailingZeros_1, sJ12_numberOfTrailingZeros_2, sJ12_numberOfTrailingZeros_3, sJ12_numberOfTrailingZeros_4, sJ12_numberOfTrailingZeros_5, sJ12_numberOfTrailingZeros_6, m, sJ12_numberOfTrailingZeros_7, sJ12_numberOfTrailingZeros_8, sJ12_numberOfTrailingZeros_9]
  have z0 : ∀ k : Fin 32, (0 : Int32) < iI ((2 ^ k.val - 1 : Nat) : Int) ↔ k.val ≠ 0 := by decide
  have z1 : ∀ k : Fin 32, k.val ≠ 0 → nzR (iI ((2 ^ k.val - 1 : Nat) : Int)) = iI (k.val : Int) := by decide
  have z0 := z0 ⟨n, n32⟩
  have z1 := z1 ⟨n, n32⟩
  by_cases p : n = 0
  · subst p
    rw [if_neg (fun w => z0.mp w rfl), sJ12_numberOfTrailingZeros_12, sJ12_numberOfTrailingZeros_13, sJ12_numberOfTrailingZeros_15, sJ12_numberOfTrailingZeros_16]
    rfl
  · rw [if_pos (z0.mpr p), sJ12_numberOfTrailingZeros_17, sJ12_numberOfTrailingZeros_18]
    have a := nz_a (r := r) (h := h) (Q := Q) (p := (iI ((2 ^ n - 1 : Nat) : Int), 1))
    simp only at a
    rw [a, nz_b, nz_c, nz_d, sJ12_numberOfTrailingZeros_74, sJ12_numberOfTrailingZeros_75, sJ12_numberOfTrailingZeros_76, sJ12_numberOfTrailingZeros_77, sJ12_numberOfTrailingZeros_78, sJ12_numberOfTrailingZeros_79]
    have := z1 p
    unfold nzR us at this
    unfold nz1 us at this ⊢
    rw [this]
end NTZ
