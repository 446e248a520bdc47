/-! NUMBERS: Int32, Int64 out of Int; sets of small numbers -/
def iI (x : Int) : Int32 := Int32.ofInt x
def lI (x : Int) : Int64 := Int64.ofInt x
theorem iI_add (a b : Int) : iI a + iI b = iI (a + b) := (Int32.ofInt_add a b).symm
theorem iI_sub (a b : Int) : iI a - iI b = iI (a - b) := (Int32.ofInt_sub a b).symm
theorem iI_mul (a b : Int) : iI a * iI b = iI (a * b) := (Int32.ofInt_mul a b).symm
theorem iI_neg (a : Int) : -iI a = iI (-a) := (Int32.ofInt_neg a).symm
theorem l64_0 : Int64.toInt 0 = 0 := rfl
theorem iI_of (x : Int32) : iI x.toInt = x := Int32.ofInt_toInt x
theorem lI_of (x : Int64) : lI x.toInt = x := Int64.ofInt_toInt x
theorem iI_nI (n : Nat) : nI n = iI n := Int32.ofInt_eq_ofNat.symm
theorem iI_toInt {a : Int} (h1 : -2147483648 ≤ a) (h2 : a < 2147483648) : (iI a).toInt = a := Int32.toInt_ofInt_of_le h1 h2
theorem lI_toInt {a : Int} (h1 : -9223372036854775808 ≤ a) (h2 : a < 9223372036854775808) : (lI a).toInt = a := Int64.toInt_ofInt_of_le h1 h2
theorem iI_lt {a b : Int} (h1 : -2147483648 ≤ a) (h2 : a < 2147483648) (h3 : -2147483648 ≤ b) (h4 : b < 2147483648) : iI a < iI b ↔ a < b := by
  rw [Int32.lt_iff_toInt_lt, iI_toInt h1 h2, iI_toInt h3 h4]
theorem iI_le {a b : Int} (h1 : -2147483648 ≤ a) (h2 : a < 2147483648) (h3 : -2147483648 ≤ b) (h4 : b < 2147483648) : iI a ≤ iI b ↔ a ≤ b := by
  rw [Int32.le_iff_toInt_le, iI_toInt h1 h2, iI_toInt h3 h4]
theorem iI_eq {a b : Int} (h1 : -2147483648 ≤ a) (h2 : a < 2147483648) (h3 : -2147483648 ≤ b) (h4 : b < 2147483648) : iI a = iI b ↔ a = b := by
  rw [← Int32.toInt_inj, iI_toInt h1 h2, iI_toInt h3 h4]
theorem iI_nat {a : Int} (h1 : -2147483648 ≤ a) (h2 : a < 2147483648) : (iI a).toNatClampNeg = a.toNat := by
  rw [Int32.toNatClampNeg, iI_toInt h1 h2]
theorem iI_bd {a : Int} {n : Nat} (h1 : 0 ≤ a) (h2 : a < n) (h3 : n ≤ 1000000) : ¬ (iI a < 0 ∨ n ≤ (iI a).toNatClampNeg) := by
  rw [show (0 : Int32) = iI 0 from rfl, iI_lt (by omega) (by omega) (by omega) (by omega), iI_nat (by omega) (by omega)]
  omega
theorem iI_ex (x : Int32) : ∃ a : Int, x = iI a ∧ -2147483648 ≤ a ∧ a < 2147483648 := ⟨x.toInt, (iI_of x).symm, Int32.le_toInt x, Int32.toInt_lt x⟩
theorem lI_ex (x : Int64) : ∃ a : Int, x = lI a ∧ -9223372036854775808 ≤ a ∧ a < 9223372036854775808 := ⟨x.toInt, (lI_of x).symm, Int64.le_toInt x, Int64.toInt_lt x⟩
theorem lI_eq {a b : Int} (h1 : -9223372036854775808 ≤ a) (h2 : a < 9223372036854775808) (h3 : -9223372036854775808 ≤ b) (h4 : b < 9223372036854775808) : lI a = lI b ↔ a = b := by
  rw [← Int64.toInt_inj, lI_toInt h1 h2, lI_toInt h3 h4]
theorem lc_ne {x y : Int64} : lg_cmp x y ≠ 0 ↔ x ≠ y := by
  unfold lg_cmp
  by_cases h : x > y
  · rw [if_pos h]
    refine ⟨fun _ e => ?_, fun _ => by decide⟩
    rw [e] at h
    exact absurd h (by simp [Int64.lt_iff_toInt_lt])
  · rw [if_neg h]
    by_cases e : x = y
    · rw [if_pos e]
      exact ⟨fun q => absurd rfl q, fun q => absurd e q⟩
    · rw [if_neg e]
      exact ⟨fun _ => e, fun _ => by decide⟩
theorem lc_eq {x y : Int64} : lg_cmp x y = 0 ↔ x = y := by
  have := lc_ne (x := x) (y := y)
  constructor
  · intro h
    exact Classical.byContradiction fun q => (this.mpr q) h
  · intro h
    exact Classical.byContradiction fun q => (this.mp q) h
theorem lc_eqI {x y : Int64} : lg_cmp x y = iI 0 ↔ x = y := lc_eq
theorem i_0 : (0 : Int32) = iI 0 := rfl
theorem i_1 : (1 : Int32) = iI 1 := rfl
theorem i_2 : (2 : Int32) = iI 2 := rfl
theorem i_3 : (3 : Int32) = iI 3 := rfl
theorem i_4 : (4 : Int32) = iI 4 := rfl
theorem i_5 : (5 : Int32) = iI 5 := rfl
theorem i_6 : (6 : Int32) = iI 6 := rfl
theorem i_7 : (7 : Int32) = iI 7 := rfl
theorem i_8 : (8 : Int32) = iI 8 := rfl
theorem i_9 : (9 : Int32) = iI 9 := rfl
theorem i_10 : (10 : Int32) = iI 10 := rfl
theorem i_11 : (11 : Int32) = iI 11 := rfl
theorem i_12 : (12 : Int32) = iI 12 := rfl
theorem i_13 : (13 : Int32) = iI 13 := rfl
theorem i_14 : (14 : Int32) = iI 14 := rfl
theorem i_15 : (15 : Int32) = iI 15 := rfl
theorem i_16 : (16 : Int32) = iI 16 := rfl
theorem i_17 : (17 : Int32) = iI 17 := rfl
theorem i_18 : (18 : Int32) = iI 18 := rfl
theorem i_19 : (19 : Int32) = iI 19 := rfl
theorem i_20 : (20 : Int32) = iI 20 := rfl
theorem i_21 : (21 : Int32) = iI 21 := rfl
theorem i_22 : (22 : Int32) = iI 22 := rfl
theorem i_23 : (23 : Int32) = iI 23 := rfl
theorem i_24 : (24 : Int32) = iI 24 := rfl
theorem i_25 : (25 : Int32) = iI 25 := rfl
theorem i_26 : (26 : Int32) = iI 26 := rfl
theorem i_27 : (27 : Int32) = iI 27 := rfl
theorem i_28 : (28 : Int32) = iI 28 := rfl
theorem i_29 : (29 : Int32) = iI 29 := rfl
theorem i_30 : (30 : Int32) = iI 30 := rfl
theorem i_31 : (31 : Int32) = iI 31 := rfl
theorem i_32 : (32 : Int32) = iI 32 := rfl
theorem i_40 : (40 : Int32) = iI 40 := rfl
theorem i_41 : (41 : Int32) = iI 41 := rfl
theorem i_44 : (44 : Int32) = iI 44 := rfl
theorem i_48 : (48 : Int32) = iI 48 := rfl
theorem i_59 : (59 : Int32) = iI 59 := rfl
theorem i_97 : (97 : Int32) = iI 97 := rfl
theorem i_120 : (120 : Int32) = iI 120 := rfl
theorem i_122 : (122 : Int32) = iI 122 := rfl
theorem i_123 : (123 : Int32) = iI 123 := rfl
theorem i_124 : (124 : Int32) = iI 124 := rfl
theorem i_125 : (125 : Int32) = iI 125 := rfl
theorem i_255 : (255 : Int32) = iI 255 := rfl
theorem i_256 : (256 : Int32) = iI 256 := rfl
theorem i_300 : (300 : Int32) = iI 300 := rfl
theorem i_480 : (480 : Int32) = iI 480 := rfl
theorem i_1024 : (1024 : Int32) = iI 1024 := rfl
theorem i_2000 : (2000 : Int32) = iI 2000 := rfl
theorem i_m1 : (-1 : Int32) = iI (-1) := rfl
theorem i_m2 : (-2 : Int32) = iI (-2) := rfl
theorem i_m3 : (-3 : Int32) = iI (-3) := rfl
theorem i_m10 : (-10 : Int32) = iI (-10) := rfl
/-! sets -/
def sOr (a b : Int) : Int := ((a.toNat ||| b.toNat : Nat) : Int)
def sHas (a k : Int) : Bool := a.toNat.testBit k.toNat
def sBit (k : Int) : Int := ((2 ^ k.toNat : Nat) : Int)
def sOnly (k : Int) : Int := if k = -1 then 0 else sBit k
/-- a set of numbers below 16 -/
def sOk (a : Int) : Prop := 0 ≤ a ∧ a < 65536
theorem sOr_ok {a b : Int} (ha : sOk a) (hb : sOk b) : sOk (sOr a b) := by
  obtain ⟨a1, a2⟩ := ha
  obtain ⟨b1, b2⟩ := hb
  have : a.toNat ||| b.toNat < 2 ^ 16 := Nat.or_lt_two_pow (by omega) (by omega)
  unfold sOk sOr
  omega
theorem sBit_ok {k : Int} (h1 : 0 ≤ k) (h2 : k < 16) : sOk (sBit k) := by
  have : 2 ^ k.toNat < 2 ^ 16 := Nat.pow_lt_pow_right (by decide) (by omega)
  unfold sOk sBit
  generalize 2 ^ k.toNat = x at *
  omega
theorem sOk0 : sOk 0 := by unfold sOk; omega
theorem sOnly_ok {k : Int} (h1 : -1 ≤ k) (h2 : k < 16) : sOk (sOnly k) := by
  unfold sOnly
  split
  · exact sOk0
  · exact sBit_ok (by omega) h2
theorem iI_or {a b : Int} (ha : sOk a) (hb : sOk b) : iI a ||| iI b = iI (sOr a b) := by
  obtain ⟨a1, a2⟩ := ha
  obtain ⟨b1, b2⟩ := hb
  obtain ⟨x, rfl⟩ := Int.eq_ofNat_of_zero_le a1
  obtain ⟨y, rfl⟩ := Int.eq_ofNat_of_zero_le b1
  unfold sOr
  simp only [Int.toNat_natCast]
  rw [← iI_nI, ← iI_nI, ← iI_nI]
  apply Int32.toBitVec.inj
  simp [nI]
theorem iI_shl {k : Int} (h1 : 0 ≤ k) (h2 : k < 16) : iI 1 <<< (iI k &&& iI 31) = iI (sBit k) := by
  obtain ⟨n, rfl⟩ := Int.eq_ofNat_of_zero_le h1
  have h3 : n < 16 := by omega
  have : ∀ n : Fin 16, iI 1 <<< (iI ((n.val : Nat) : Int) &&& iI 31) = iI (sBit ((n.val : Nat) : Int)) := by decide
  exact this ⟨n, h3⟩
theorem iI_has {a k : Int} (ha : sOk a) (h1 : 0 ≤ k) (h2 : k < 16) : (iI a >>> (iI k &&& iI 31)) &&& iI 1 = iI (if sHas a k = true then 1 else 0) := by
  obtain ⟨a1, a2⟩ := ha
  obtain ⟨x, rfl⟩ := Int.eq_ofNat_of_zero_le a1
  obtain ⟨n, rfl⟩ := Int.eq_ofNat_of_zero_le h1
  have h3 : n < 16 := by omega
  have hx : x < 65536 := by omega
  unfold sHas
  simp only [Int.toNat_natCast]
  have e1 : iI ((n : Nat) : Int) &&& iI 31 = iI ((n : Nat) : Int) := by
    have : ∀ n : Fin 16, iI ((n.val : Nat) : Int) &&& iI 31 = iI ((n.val : Nat) : Int) := by decide
    exact this ⟨n, h3⟩
  have e2 : iI 31 = 31 := rfl
  have e3 : iI 1 = 1 := rfl
  rw [e2, e3, ← iI_nI, ← iI_nI]
  apply b_ext
  intro i hi
  have b1 : ∀ i, i < 32 → bt 1 i = decide (i = 0) := by decide +kernel
  have bn : ∀ j, j < 32 → bt (nI x) j = x.testBit j := by
    intro j hj
    show (BitVec.ofNat 32 x).getLsbD j = _
    rw [BitVec.getLsbD_ofNat]
    simp [hj]
  rw [b_and, b_sshr n (by omega) _ hi, b1 i hi]
  by_cases h0 : i = 0
  · subst h0
    rw [Nat.add_zero, if_pos (by omega), bn n (by omega)]
    by_cases hb : x.testBit n = true
    · rw [if_pos hb, hb]; decide
    · rw [if_neg hb, Bool.eq_false_iff.mpr hb]; decide
  · rw [decide_eq_false h0, Bool.and_false]
    by_cases hb : x.testBit n = true
    · rw [if_pos hb]; exact ((b1 i hi).trans (decide_eq_false h0)).symm
    · rw [if_neg hb]; exact (b_0 i).symm
theorem sHas_or (a b k : Int) : sHas (sOr a b) k = (sHas a k || sHas b k) := by
  unfold sHas sOr
  rw [Int.toNat_natCast, Nat.testBit_or]
theorem sHas_bit {j k : Int} (hj : 0 ≤ j) (hk : 0 ≤ k) : sHas (sBit j) k = decide (j = k) := by
  unfold sHas sBit
  rw [Int.toNat_natCast, Nat.testBit_two_pow]
  by_cases h : j = k
  · subst h; simp
  · rw [decide_eq_false h, decide_eq_false (by omega)]
theorem sHas_0 (k : Int) : sHas 0 k = false := by
  unfold sHas
  simp
theorem sExt {a b : Int} (ha : sOk a) (hb : sOk b) (h : ∀ k : Int, 0 ≤ k → k < 16 → sHas a k = sHas b k) : a = b := by
  obtain ⟨a1, a2⟩ := ha
  obtain ⟨b1, b2⟩ := hb
  obtain ⟨x, rfl⟩ := Int.eq_ofNat_of_zero_le a1
  obtain ⟨y, rfl⟩ := Int.eq_ofNat_of_zero_le b1
  congr 1
  apply Nat.eq_of_testBit_eq
  intro i
  by_cases hi : i < 16
  · have := h (i : Int) (by omega) (by omega)
    unfold sHas at this
    simpa using this
  · rw [Nat.testBit_lt_two_pow (Nat.lt_of_lt_of_le (show x < 2 ^ 16 by omega) (Nat.pow_le_pow_right (by decide) (by omega))), Nat.testBit_lt_two_pow (Nat.lt_of_lt_of_le (show y < 2 ^ 16 by omega) (Nat.pow_le_pow_right (by decide) (by omega)))]
