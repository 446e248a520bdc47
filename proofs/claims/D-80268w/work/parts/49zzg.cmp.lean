/-! JDK: texts, 5: order *-/
set_option maxRecDepth 20000
def misI (T U : List Int32) : Nat → Nat → Int
  | 0, _ => -1
  | d + 1, i => if T.getD i 0 = U.getD i 0 then misI T U d (i + 1) else (i : Int)
/-- a byte as a number below 256 -/
def btN (x : Int32) : Nat := x.toUInt32.toNat % 256
def leN (f : Nat → Int32) : Nat → Nat → Nat
  | 0, _ => 0
  | n + 1, i => btN (f i) + 256 * leN f n (i + 1)
section CMP
variable {r a b e n k i : Nat} {h : am_H} {v : vT} {Q : am_O → am_H → Prop} {x : Int} {T U V S : List Int32}
theorem mis_lo (T U : List Int32) : ∀ d i, misI T U d i = -1 ∨ ((i : Int) ≤ misI T U d i ∧ misI T U d i < i + d ∧ T.getD (misI T U d i).toNat 0 ≠ U.getD (misI T U d i).toNat 0) := by
  intro d
  induction d with
  | zero => intro i; exact Or.inl rfl
  | succ d ih =>
    intro i
    rw [misI]
    split
    · rcases ih (i + 1) with z | ⟨z1, z2, z3⟩
      · exact Or.inl z
      · exact Or.inr ⟨by omega, by omega, z3⟩
    · rename_i q
      refine Or.inr ⟨by omega, by omega, ?_⟩
      rw [Int.toNat_natCast]
      exact q
theorem mis_eq (T U : List Int32) : ∀ d i j, i ≤ j → j < i + d → (misI T U d i = -1 ∨ (j : Int) < misI T U d i) → T.getD j 0 = U.getD j 0 := by
  intro d
  induction d with
  | zero => intro i j h1 h2; omega
  | succ d ih =>
    intro i j h1 h2 q
    rw [misI] at q
    by_cases p : T.getD i 0 = U.getD i 0
    · rw [if_pos p] at q
      by_cases e : j = i
      · rw [e]; exact p
      · exact ih (i + 1) j (by omega) (by omega) q
    · rw [if_neg p] at q
      omega
theorem ms_loop (A : BA h a T) (B : BA h b U) (t1 : n ≤ T.length) (u1 : n ≤ U.length) : ∀ (d i : Nat), i + d = n →
    (Rn r 312 49 [some (vR (some a)), some (vR (some b)), some (vI (iI n)), some (vI (iI i))] [] h Q ↔ Q (Sum.inl (some (vI (iI (misI T U d i))))) h) := by
  obtain ⟨a1, a2, a3, a4⟩ := A
  obtain ⟨b1, b2, b3, b4⟩ := B
  intro d
  induction d with
  | zero =>
    intro i hi
    rw [sJ8_mismatch_49, sJ8_mismatch_50, sJ8_mismatch_51, if_pos (by rw [iI_le (by omega) (by omega) (by omega) (by omega)]; omega), sJ8_mismatch_71, sJ8_mismatch_72]
    rfl
  | succ d ih =>
    intro i hi
    rw [sJ8_mismatch_49, sJ8_mismatch_50, sJ8_mismatch_51, if_neg (by rw [iI_le (by omega) (by omega) (by omega) (by omega)]; omega), sJ8_mismatch_54, sJ8_mismatch_55, sJ8_mismatch_56 (by omega) (by omega) (by rw [a2]; exact bd_i (by omega) (by omega)), nn_i (by omega), a3 _ (by omega), sJ8_mismatch_57, sJ8_mismatch_58, sJ8_mismatch_59 (by omega) (by omega) (by rw [b2]; exact bd_i (by omega) (by omega)), nn_i (by omega), b3 _ (by omega), sJ8_mismatch_60, misI]
    by_cases p : T.getD i 0 = U.getD i 0
    · rw [if_pos p, if_pos p, sJ8_mismatch_65, c_i1, sJ8_mismatch_68, ih (i + 1) (by omega)]
    · rw [if_neg p, if_neg p, sJ8_mismatch_63, sJ8_mismatch_64]
theorem btN_lt (y : Int32) : btN y < 256 := Nat.mod_lt _ (by decide)
theorem btN_inj {y z : Int32} (hy : y.toInt8.toInt32 = y) (hz : z.toInt8.toInt32 = z) (e : btN y = btN z) : y = z := by
  have key : ∀ w : Int32, w.toInt8.toBitVec.toNat = btN w := by
    intro w
    have : w.toInt8.toBitVec = w.toBitVec.signExtend 8 := rfl
    rw [this, BitVec.signExtend_eq_setWidth_of_le _ (by decide), BitVec.toNat_setWidth]
    rfl
  have : y.toInt8 = z.toInt8 := by
    apply Int8.toBitVec.inj
    apply BitVec.eq_of_toNat_eq
    rw [key, key, e]
  rw [← hy, ← hz, this]
theorem leN_lt (f : Nat → Int32) : ∀ n i, leN f n i < 256 ^ n := by
  intro n
  induction n with
  | zero => intro i; exact Nat.zero_lt_one
  | succ n ih =>
    intro i
    have := ih (i + 1)
    have := btN_lt (f i)
    rw [leN, Nat.pow_succ]
    omega
theorem leN_split (f : Nat → Int32) : ∀ j m i, leN f (j + m) i = leN f j i + 256 ^ j * leN f m (i + j) := by
  intro j
  induction j with
  | zero => intro m i; rw [Nat.zero_add, leN, Nat.pow_zero, Nat.one_mul, Nat.zero_add, Nat.add_zero]
  | succ j ih =>
    intro m i
    rw [show j + 1 + m = (j + m) + 1 by omega, leN, leN, ih m (i + 1), Nat.pow_succ, Nat.mul_add, show i + 1 + j = i + (j + 1) by omega, Nat.mul_comm (256 ^ j) 256, Nat.mul_assoc]
    omega
theorem leN_same {f g : Nat → Int32} : ∀ j i, (∀ l, i ≤ l → l < i + j → f l = g l) → leN f j i = leN g j i := by
  intro j
  induction j with
  | zero => intro i _; rfl
  | succ j ih =>
    intro i e
    rw [leN, leN, e i (Nat.le_refl _) (by omega), ih (i + 1) (fun l h1 h2 => e l (by omega) (by omega))]
theorem xor_split (P A B m : Nat) (hP : P < 2 ^ m) : (P + 2 ^ m * A) ^^^ (P + 2 ^ m * B) = 2 ^ m * (A ^^^ B) := by
  apply Nat.eq_of_testBit_eq
  intro i
  have e0 : 2 ^ m * (A ^^^ B) = 2 ^ m * (A ^^^ B) + 0 := by omega
  rw [Nat.testBit_xor, Nat.add_comm P, Nat.add_comm P, Nat.testBit_two_pow_mul_add _ hP, Nat.testBit_two_pow_mul_add _ hP, e0, Nat.testBit_two_pow_mul_add _ (Nat.two_pow_pos m), Nat.testBit_xor]
  split
  · simp
  · rfl
theorem le8_N (f : Nat → Int32) : am_le8 f = Int64.ofNat (leN f 8 0) := by
  unfold am_le8
  simp only [leN, btN, Nat.mul_zero, Nat.add_zero, Nat.zero_add]
theorem low8 {f g : Nat → Int32} {j : Nat} (hj : j < 8) (e : ∀ l, l < j → f l = g l) (ne : btN (f j) ≠ btN (g j)) : ∃ n k, (am_le8 f ^^^ am_le8 g).toBitVec.toNat = 2 ^ n * (2 * k + 1) ∧ n / 8 = j ∧ n < 64 ∧ am_le8 f ≠ am_le8 g := by
  have b1 : leN f 8 0 < 2 ^ 64 := leN_lt f 8 0
  have b2 : leN g 8 0 < 2 ^ 64 := leN_lt g 8 0
  have p256 : (256 : Nat) ^ j = 2 ^ (8 * j) := by rw [show (256 : Nat) = 2 ^ 8 from rfl, ← Nat.pow_mul]
  have s1 := leN_split f j (8 - j) 0
  have s2 := leN_split g j (8 - j) 0
  rw [show j + (8 - j) = 8 by omega, Nat.zero_add, p256] at s1 s2
  rw [← leN_same (f := f) (g := g) j 0 (fun l _ h2 => e l (by omega))] at s2
  have hP : leN f j 0 < 2 ^ (8 * j) := by rw [← p256]; exact leN_lt f j 0
  have X : (am_le8 f ^^^ am_le8 g).toBitVec.toNat = 2 ^ (8 * j) * (leN f (8 - j) j ^^^ leN g (8 - j) j) := by
    rw [le8_N, le8_N]
    show (BitVec.ofNat 64 (leN f 8 0) ^^^ BitVec.ofNat 64 (leN g 8 0)).toNat = _
    rw [BitVec.toNat_xor, BitVec.toNat_ofNat, BitVec.toNat_ofNat, Nat.mod_eq_of_lt b1, Nat.mod_eq_of_lt b2, s1, s2, xor_split _ _ _ _ hP]
  have Y : (leN f (8 - j) j ^^^ leN g (8 - j) j) % 256 ≠ 0 := by
    rw [show (256 : Nat) = 2 ^ 8 from rfl, Nat.xor_mod_two_pow]
    rw [show 8 - j = (7 - j) + 1 by omega, leN, leN]
    have l1 := btN_lt (f j)
    have l2 := btN_lt (g j)
    rw [show (2 : Nat) ^ 8 = 256 from rfl, Nat.add_mul_mod_self_left, Nat.add_mul_mod_self_left, Nat.mod_eq_of_lt l1, Nat.mod_eq_of_lt l2]
    intro z
    refine ne (Nat.eq_of_testBit_eq fun i => ?_)
    have w := congrArg (fun w => Nat.testBit w i) z
    simp only [Nat.testBit_xor, Nat.zero_testBit] at w
    cases h1 : (btN (f j)).testBit i <;> cases h2 : (btN (g j)).testBit i <;> rw [h1, h2] at w <;> first | rfl | exact absurd w (by decide)
  have pos : 0 < (am_le8 f ^^^ am_le8 g).toBitVec.toNat := by
    rw [X]
    refine Nat.mul_pos (Nat.two_pow_pos _) ?_
    refine Nat.pos_of_ne_zero (fun z => Y ?_)
    rw [z]
  obtain ⟨n, k, ek⟩ := lowEx _ pos
  have bt := low_between ek X Y
  refine ⟨n, k, ek, by omega, by omega, ?_⟩
  intro z
  rw [z] at pos
  have : (am_le8 g ^^^ am_le8 g).toBitVec.toNat = 0 := by
    show ((am_le8 g).toBitVec ^^^ (am_le8 g).toBitVec).toNat = 0
    rw [BitVec.xor_self]
    rfl
  omega
theorem ms_all (A : BA h a T) (B : BA h b U) (t1 : n ≤ T.length) (u1 : n ≤ U.length) (n8 : n ≤ 8) (okT : okB T) (okU : okB U) (ku : hE h 33 = hE h 33)
    (k8 : n = 8 → hK h a = 44 ∧ hK h b = 44 ∧ misI T U 8 0 ≠ -1) : Cl r 312 [vR (some a), vR (some b), vI (iI n)] h Q ↔ Q (Sum.inl (some (vI (iI (misI T U n 0))))) h := by
  have L := ms_loop (r := r) (Q := Q) A B t1 u1 n 0 (by omega)
  obtain ⟨a1, a2, a3, a4⟩ := A
  obtain ⟨b1, b2, b3, b4⟩ := B
  rw [eJ8_mismatch, sJ8_mismatch_0, sJ8_mismatch_1, sJ8_mismatch_2, sJ8_mismatch_3, sJ8_mismatch_5]
  have e7 : (7 : Int32) = iI 7 := rfl
  by_cases p : n ≤ 7
  · rw [if_pos (by rw [e7, iI_le (by omega) (by omega) (by omega) (by omega)]; omega)]
    exact L
  · have n8' : n = 8 := by omega
    subst n8'
    obtain ⟨ka, kb, ne⟩ := k8 rfl
    rw [if_neg (by rw [e7, iI_le (by omega) (by omega) (by omega) (by omega)]; omega), sJ8_mismatch_8, sJ8_mismatch_9, sJ8_mismatch_10 (by omega) (by omega) (by rw [a2]; exact bd_i (n := 0) (by omega) (by omega)), show ((0 : Int32)).toNatClampNeg = 0 from rfl, a3 0 (by omega), sJ8_mismatch_11, sJ8_mismatch_12, sJ8_mismatch_13 (by omega) (by omega) (by rw [b2]; exact bd_i (n := 0) (by omega) (by omega)), show ((0 : Int32)).toNatClampNeg = 0 from rfl, b3 0 (by omega), sJ8_mismatch_14]
    by_cases q : T.getD 0 0 = U.getD 0 0
    · rw [if_pos q]
      rcases mis_lo T U 8 0 with z | ⟨z1, z2, z3⟩
      · exact absurd z ne
      · obtain ⟨j, ej⟩ : ∃ j : Nat, misI T U 8 0 = j := ⟨(misI T U 8 0).toNat, by omega⟩
        rw [ej, Int.toNat_natCast] at z3
        have mem : ∀ (W : List Int32) (i : Nat), i < W.length → W.getD i 0 ∈ W := fun W i hi => by
          rw [List.getD_eq_getElem?_getD, List.getElem?_eq_getElem hi]
          exact List.getElem_mem hi
        have hb : btN (hI h a j) ≠ btN (hI h b j) := by
          rw [a3 j (by omega), b3 j (by omega)]
          intro w
          exact z3 (btN_inj (okT _ (mem T j (by omega))) (okU _ (mem U j (by omega))) w)
        obtain ⟨m, k, e1, e2, e3, e4⟩ := low8 (f := hI h a) (g := hI h b) (j := j) (by omega) (fun l hl => by rw [a3 l (by omega), b3 l (by omega)]; exact mis_eq T U 8 0 l (by omega) (by omega) (Or.inr (by omega))) hb
        have v8 : ∀ Q, Cl r 314 [vR (some a), vL 16, vR (some b), vL 16, vI 8, vI 0] h Q ↔ _ := fun Q => vm8 ka kb (by omega) (by omega) ku e4 (fun Q => l_ntz e1 e3) e3
        rw [e2] at v8
        have c16 : (16 : Int32).toInt64 = 16 := by decide
        have i8 : iI ((8 : Nat) : Int) = 8 := rfl
        rw [sJ8_mismatch_19, sJ8_mismatch_20, sJ8_mismatch_23, sJ8_mismatch_24, sJ8_mismatch_25, sJ8_mismatch_28, sJ8_mismatch_29, sJ8_mismatch_30, sJ8_mismatch_33, c16, i8, v8, Kt_v, sJ8_mismatch_36, sJ8_mismatch_37, sJ8_mismatch_38, if_neg (by rw [i_0, iI_lt (by omega) (by omega) (by omega) (by omega)]; omega), sJ8_mismatch_41, sJ8_mismatch_42, ej]
    · rw [if_neg q, sJ8_mismatch_17, sJ8_mismatch_18, misI, if_neg q]
      rfl
/-- what compareTo answers -/
def cmpV (T U : List Int32) : Int := if misI T U (min T.length U.length) 0 < 0 then (T.length : Int) - U.length else (btN (T.getD (misI T U (min T.length U.length) 0).toNat 0) : Int) - btN (U.getD (misI T U (min T.length U.length) 0).toNat 0)
theorem bt_and (y : Int32) : y &&& 255 = iI (btN y) ∧ ((y &&& 255).toUInt32 % 65536).toInt32 = iI (btN y) := by
  have e : y &&& 255 = iI (btN y) := by
    rw [← iI_nI]
    apply Int32.toBitVec.inj
    apply BitVec.eq_of_toNat_eq
    show (y.toBitVec &&& (255 : Int32).toBitVec).toNat = (BitVec.ofNat 32 (btN y)).toNat
    rw [BitVec.toNat_and, BitVec.toNat_ofNat, show (255 : Int32).toBitVec.toNat = 2 ^ 8 - 1 from by decide, Nat.and_two_pow_sub_one_eq_mod]
    have := btN_lt y
    unfold btN at *
    show y.toBitVec.toNat % 2 ^ 8 = y.toUInt32.toNat % 256 % 2 ^ 32
    rw [Nat.mod_eq_of_lt (a := y.toUInt32.toNat % 256) (by omega)]
    rfl
  refine ⟨e, ?_⟩
  rw [e]
  have : ∀ k : Fin 256, ((iI ((k.val : Nat) : Int)).toUInt32 % 65536).toInt32 = iI ((k.val : Nat) : Int) := by decide
  exact this ⟨btN y, btN_lt y⟩
theorem ba_cmp (A : BA h a T) (B : BA h b U) (t8 : T.length ≤ 8) (u8 : U.length ≤ 8) (okT : okB T) (okU : okB U) (ku : hE h 33 = hE h 33) (ne : T ≠ U) (k8 : T.length = 8 → U.length = 8 → hK h a = 44 ∧ hK h b = 44) :
    Cl r 310 [vR (some a), vR (some b)] h Q ↔ Q (Sum.inl (some (vI (iI (cmpV T U))))) h := by
  have ms : ∀ Q, Cl r 312 [vR (some a), vR (some b), vI (iI ((min T.length U.length : Nat) : Int))] h Q ↔ _ := fun Q => ms_all A B (by omega) (by omega) (by omega) okT okU ku (fun z => by
    obtain ⟨z1, z2⟩ := k8 (by omega) (by omega)
    refine ⟨z1, z2, fun w => ne ?_⟩
    apply List.ext_getElem (by omega)
    intro i h1 h2
    have := mis_eq T U 8 0 i (by omega) (by omega) (Or.inl w)
    rw [List.getD_eq_getElem?_getD, List.getElem?_eq_getElem h1, List.getD_eq_getElem?_getD, List.getElem?_eq_getElem h2] at this
    exact this)
  obtain ⟨a1, a2, a3, a4⟩ := A
  obtain ⟨b1, b2, b3, b4⟩ := B
  have k1 : 40 ≤ hK h a := by omega
  have k2 : hK h a ≤ 49 := by omega
  have k3 : 40 ≤ hK h b := by omega
  have k4 : hK h b ≤ 49 := by omega
  have hm : ∀ Q, Cl r 246 [vI (iI T.length), vI (iI U.length)] h Q ↔ Q (Sum.inl (some (vI (iI ((min T.length U.length : Nat) : Int))))) h := fun Q => by
    rw [jd_min (by omega) (by omega) (by omega) (by omega)]
    have : (if (U.length : Int) < T.length then (U.length : Int) else T.length) = ((min T.length U.length : Nat) : Int) := by split <;> omega
    rw [this]
  have LO := mis_lo T U (min T.length U.length) 0
  rw [eJ14_compareTo, sJ14_compareTo_0, sJ14_compareTo_1 k1 k2, a2, iI_nI, sJ14_compareTo_2, sJ14_compareTo_3, sJ14_compareTo_4 k3 k4, b2, iI_nI, sJ14_compareTo_5, sJ14_compareTo_6, sJ14_compareTo_7, sJ14_compareTo_8, sJ14_compareTo_9, sJ14_compareTo_10, eJ14_compareTo_2, sJ14_compareTo_2_0, sJ14_compareTo_2_1, sJ14_compareTo_2_2, hm, Kt_v, sJ14_compareTo_2_5, sJ14_compareTo_2_7, sJ14_compareTo_2_8, sJ14_compareTo_2_9, sJ14_compareTo_2_11, ms, Kt_v, sJ14_compareTo_2_14, sJ14_compareTo_2_16, sJ14_compareTo_2_18]
  unfold cmpV
  by_cases p : misI T U (min T.length U.length) 0 < 0
  · rw [if_neg (by rw [i_0, iI_le (by omega) (by omega) (by omega) (by omega)]; omega), if_pos p, sJ14_compareTo_2_21, sJ14_compareTo_2_22, sJ14_compareTo_2_23, iI_sub, sJ14_compareTo_2_24, sJ14_compareTo_2_40, Kt_v, sJ14_compareTo_13]
  · rw [if_pos (by rw [i_0, iI_le (by omega) (by omega) (by omega) (by omega)]; omega), if_neg p]
    obtain ⟨j, ej⟩ : ∃ j : Nat, misI T U (min T.length U.length) 0 = j := ⟨(misI T U (min T.length U.length) 0).toNat, by omega⟩
    rw [ej, Int.toNat_natCast] at LO ⊢
    have g1 : ∀ Q, Cl r 313 [vR (some a), vI (iI j)] h Q ↔ Q (Sum.inl (some (vI (iI (btN (T.getD j 0)))))) h := fun Q => by
      rw [eJ14_getChar, sJ14_getChar_0, sJ14_getChar_1, sJ14_getChar_2 (by omega) (by omega) (by rw [a2]; exact bd_i (by omega) (by omega)), nn_i (by omega), a3 _ (by omega), sJ14_getChar_3, sJ14_getChar_6, sJ14_getChar_7, (bt_and _).2, sJ14_getChar_8]
      have : ∀ k : Fin 256, am_fit 6 (iI ((k.val : Nat) : Int)) = true := by decide
      exact this ⟨btN (T.getD j 0), btN_lt _⟩
    have g2 : ∀ Q, Cl r 313 [vR (some b), vI (iI j)] h Q ↔ Q (Sum.inl (some (vI (iI (btN (U.getD j 0)))))) h := fun Q => by
      rw [eJ14_getChar, sJ14_getChar_0, sJ14_getChar_1, sJ14_getChar_2 (by omega) (by omega) (by rw [b2]; exact bd_i (by omega) (by omega)), nn_i (by omega), b3 _ (by omega), sJ14_getChar_3, sJ14_getChar_6, sJ14_getChar_7, (bt_and _).2, sJ14_getChar_8]
      have : ∀ k : Fin 256, am_fit 6 (iI ((k.val : Nat) : Int)) = true := by decide
      exact this ⟨btN (U.getD j 0), btN_lt _⟩
    simp only [sJ14_compareTo_2_27, sJ14_compareTo_2_28, sJ14_compareTo_2_30, sJ14_compareTo_2_33, sJ14_compareTo_2_34, sJ14_compareTo_2_36, sJ14_compareTo_2_39, sJ14_compareTo_2_40, g1, g2, Kt_v, iI_sub, sJ14_compareTo_13]
theorem st_cmp (s : RS h a b T) (t : RS h e k U) (t8 : T.length ≤ 8) (u8 : U.length ≤ 8) (okT : okB T) (okU : okB U) (ku : hE h 33 = hE h 33) (ne : T ≠ U) (k8 : T.length = 8 → U.length = 8 → hK h b = 44 ∧ hK h k = 44) :
    Cl r 290 [vR (some a), vR (some e)] h Q ↔ Q (Sum.inl (some (vI (iI (cmpV T U))))) h := by
  have cd : ∀ Q, Cl r 264 [vR (some a)] h Q ↔ _ := fun Q => st_coder s
  have cd2 : ∀ Q, Cl r 264 [vR (some e)] h Q ↔ _ := fun Q => st_coder t
  have cm : ∀ Q, Cl r 310 [vR (some b), vR (some k)] h Q ↔ _ := fun Q => ba_cmp s.ba t.ba t8 u8 okT okU ku ne k8
  obtain ⟨p1, p2, p3, p4, p5, p6, p7, p8⟩ := s
  obtain ⟨t1, t2, t3, t4, t5, t6, t7, t8⟩ := t
  have km : hK h e ∈ [10, 11] := by
    have : hK h e = 10 ∨ hK h e = 11 := by omega
    rcases this with z | z <;> rw [z] <;> decide
  rw [eJ13_compareTo, sJ13_compareTo_0, sJ13_compareTo_1, sJ13_compareTo_2 km]
  simp only [sJ13_compareTo_5, sJ13_compareTo_8, p1, p2, t1, t2, eJ13_compareTo_2, sJ13_compareTo_2_0, sJ13_compareTo_2_1, sJ13_compareTo_2_4, sJ13_compareTo_2_5, sJ13_compareTo_2_6, sJ13_compareTo_2_9, sJ13_compareTo_2_10, sJ13_compareTo_2_11, sJ13_compareTo_2_14, sJ13_compareTo_2_16, sJ13_compareTo_2_18, sJ13_compareTo_2_19, sJ13_compareTo_2_22, sJ13_compareTo_2_25, sJ13_compareTo_2_27, sJ13_compareTo_2_30, sJ13_compareTo_2_31, sJ13_compareTo_2_32, sJ13_compareTo_2_35, sJ13_compareTo_2_38, sJ13_compareTo_2_39, sJ13_compareTo_2_43, sJ13_compareTo_2_44, sJ13_compareTo_2_46, sJ13_compareTo_2_49, sJ13_compareTo_2_50, sJ13_compareTo_2_54, sJ13_compareTo_2_57, sJ13_compareTo_2_58, sJ13_compareTo_2_62, p3, t3, cd, cd2, Kt_v, ne_eq, not_true_eq_false, if_false, cm]
end CMP
