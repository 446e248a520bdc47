/-! COMPONENT, 2: questions about kinds *-/
/-- a unit's kinds lie in the heap -/
def KX (h : am_H) (v : vT) (u lk : Nat) (U : tSt) (w : Int) (A : Int → Nat) : Prop := CR h v ∧ RK v u lk U w A ∧ QW w U
section KQS
variable {r u lk : Nat} {h : am_H} {v : vT} {U : tSt} {w k a b s o : Int} {A : Int → Nat} {Q : am_O → am_H → Prop}
theorem KX.raw (x : KX h v u lk U w A) : hK h u = 5 ∧ hR h u 0 = some lk ∧ (4 ≤ U 3 w ∧ U 3 w ≤ 16) ∧ (∀ k, 0 ≤ k → k < U 3 w → hK h (A k) = 7 ∧ hI h (A k) 1 = iI k ∧ hI h (A k) 3 = iI (U 5 (w * 16 + k)) ∧ hR h (A k) 2 = optA A (par U w k)) ∧
    (∀ r Q, Cl r 34 [vR (some lk)] h Q ↔ Q (Sum.inl (some (vI (iI (U 3 w))))) h) ∧ (∀ r k Q, 0 ≤ k → k < U 3 w → (Cl r 43 [vR (some lk), vI (iI k)] h Q ↔ Q (Sum.inl (some (vR (some (A k))))) h)) ∧ hK h lk = 4 := by
  obtain ⟨c, ⟨k1, k2, k3, k4, k5⟩, qw⟩ := x
  refine ⟨c.kk k1 (by decide), by rw [c.rr k1 rfl]; exact k2, qw.1, fun k h0 h1 => ?_, fun r Q => ?_, fun r k Q h0 h1 => ?_, c.kk k3 (by decide)⟩
  · obtain ⟨a1, a2, a3, a4⟩ := k5 k h0 h1
    exact ⟨c.kk a1 (by decide), by rw [c.ii a1 rfl]; exact a2, by rw [c.ii a1 rfl]; exact a3, by rw [c.rr a1 rfl]; exact a4⟩
  · rw [v_size c k3, k4, rowL_len, show (((U 3 w).toNat : Nat) : Int) = U 3 w by have := qw.1; omega]
  · rw [v_get c k3 h0 (by rw [k4, rowL_len]; omega), k4, rowL_get h0 h1, Int.zero_add]
theorem KX.inj (x : KX h v u lk U w A) (ha : 0 ≤ a ∧ a < U 3 w) (hb : 0 ≤ b ∧ b < U 3 w) (e : A a = A b) : a = b := by
  obtain ⟨_, _, n3, kk, _⟩ := x.raw
  have h1 := (kk a ha.1 ha.2).2.1
  have h2 := (kk b hb.1 hb.2).2.1
  rw [e, h2] at h1
  exact (iI_eq (by omega) (by omega) (by omega) (by omega)).mp h1.symm
theorem c_bel (x : KX h v u lk U w A) (hb : 0 ≤ b ∧ b < U 3 w) : ∀ (d : Nat) (k : Int) (l0 : Option am_V), -1 ≤ k → k < U 3 w → k + 1 < d →
    (Rn r 47 2 [l0, some (vR (some (A b))), some (vR (optA A k))] [] h Q ↔ Q (Sum.inl (some (vI (bI (tBel U w b d k = true))))) h) := by
  have x' := x
  obtain ⟨ku, ru, n3, kk, sz, gt, kl⟩ := x.raw
  intro d
  induction d with
  | zero => intro k l0 h0 h1 h2; omega
  | succ d ih =>
    intro k l0 h0 h1 h2
    rw [tBel, sX4_isBelow_2, sX4_isBelow_3]
    by_cases p : k = -1
    · rw [if_pos p]
      unfold optA
      rw [if_pos p, if_pos rfl, sX4_isBelow_19, sX4_isBelow_20, if_pos rfl, sX4_isBelow_27, sX4_isBelow_28 rfl]
      rfl
    · have k0 : 0 ≤ k := by omega
      obtain ⟨a1, a2, a3, a4⟩ := kk k k0 h1
      have pb := par_b x.2.2 k0 h1
      rw [if_neg p]
      unfold optA
      rw [if_neg p, if_neg (by simp), sX4_isBelow_6, sX4_isBelow_7, sX4_isBelow_8]
      by_cases q : k = b
      · rw [if_pos (by rw [q]), if_pos q, sX4_isBelow_19, sX4_isBelow_20, if_neg (by simp), sX4_isBelow_23, sX4_isBelow_24, sX4_isBelow_28 rfl]
        rfl
      · rw [if_neg (fun e => q (x'.inj ⟨k0, h1⟩ hb (Option.some.inj e))), if_neg q, sX4_isBelow_11, sX4_isBelow_12 a1, a4, sX4_isBelow_15, sX4_isBelow_16]
        exact ih (par U w k) _ (by omega) (by omega) (by omega)
theorem c_isBelow (x : KX h v u lk U w A) (ha : 0 ≤ a ∧ a < U 3 w) (hb : 0 ≤ b ∧ b < U 3 w) : Cl r 47 [vR (some (A a)), vR (some (A b))] h Q ↔ Q (Sum.inl (some (vI (bI (bel U w a b = true))))) h := by
  rw [eX4_isBelow, sX4_isBelow_0, sX4_isBelow_1]
  have := c_bel (r := r) (Q := Q) x hb (a + 2).toNat a (some (vR (some (A a)))) (by omega) ha.2 (by omega)
  unfold optA at this
  rw [if_neg (by omega)] at this
  exact this
theorem c_isChecked (x : KX h v u lk U w A) (ha : 0 ≤ a ∧ a < U 3 w) : Cl r 44 [vR (some u), vR (some (A a))] h Q ↔ Q (Sum.inl (some (vI (bI (chk U w a = true))))) h := by
  have b2 : ∀ Q, Cl r 47 [vR (some (A a)), vR (some (A 2))] h Q ↔ _ := fun Q => c_isBelow x ha ⟨by omega, by have := x.raw.2.2.1; omega⟩
  have b3 : ∀ Q, Cl r 47 [vR (some (A a)), vR (some (A 3))] h Q ↔ _ := fun Q => c_isBelow x ha ⟨by omega, by have := x.raw.2.2.1; omega⟩
  obtain ⟨ku, ru, n3, kk, sz, gt, kl⟩ := x.raw
  have g2 := fun Q => gt r 2 Q (by omega) (by omega)
  have g3 := fun Q => gt r 3 Q (by omega) (by omega)
  have k2 := (kk 2 (by omega) (by omega)).1
  have k3 := (kk 3 (by omega) (by omega)).1
  have ka := (kk a ha.1 ha.2).1
  have m2 : hK h (A 2) ∈ [7] := by rw [k2]; decide
  have m3 : hK h (A 3) ∈ [7] := by rw [k3]; decide
  rw [eX3_isChecked, sX3_isChecked_0, sX3_isChecked_1, sX3_isChecked_2 ku, ru, sX3_isChecked_5, i_2, sX3_isChecked_6 kl, g2, Kt_v, sX3_isChecked_9 m2, sX3_isChecked_12 ka, b2, Kt_v, sX3_isChecked_15, i_0]
  unfold chk
  by_cases p : bel U w a 2 = true
  · rw [if_pos (bI_1.mpr p), sX3_isChecked_40, sX3_isChecked_41 rfl, p]
    rfl
  · rw [if_neg (fun z => p (bI_1.mp z)), sX3_isChecked_18, sX3_isChecked_19, sX3_isChecked_20 ku, ru, sX3_isChecked_23, i_3, sX3_isChecked_24 kl, g3, Kt_v, sX3_isChecked_27 m3, sX3_isChecked_30 ka, b3, Kt_v, sX3_isChecked_33, i_0]
    by_cases q : bel U w a 3 = true
    · rw [if_pos (bI_1.mpr q), sX3_isChecked_40, sX3_isChecked_41 rfl, q, Bool.eq_false_iff.mpr p]
      rfl
    · rw [if_neg (fun z => q (bI_1.mp z)), sX3_isChecked_36, sX3_isChecked_37, sX3_isChecked_41 rfl, Bool.eq_false_iff.mpr q, Bool.eq_false_iff.mpr p]
      rfl
theorem bI_or {p q : Bool} : bI (p = true) ||| bI (q = true) = bI ((p || q) = true) := by
  cases p <;> cases q <;> decide
theorem c_anyL (x : KX h v u lk U w A) (ha : 0 ≤ a ∧ a < U 3 w) (hs : sOk s) : ∀ (d : Nat) (j : Int) (p : Bool), 0 ≤ j → j + d = U 3 w →
    (Rn r 139 5 [some (vR (some u)), some (vR (some (A a))), some (vI (iI s)), some (vI (bI (p = true))), some (vI (iI j))] [] h Q ↔ Q (Sum.inl (some (vI (bI (tFor (fun q z => z || (sHas s q && bel U w a q)) d j p = true))))) h) := by
  have x' := x
  obtain ⟨ku, ru, n3, kk, sz, gt, kl⟩ := x.raw
  intro d
  induction d with
  | zero =>
    intro j p h0 h1
    rw [sX3_isBelowAny_5, sX3_isBelowAny_7, sX3_isBelowAny_8 ku, ru, sX3_isBelowAny_11 kl, sz, Kt_v, sX3_isBelowAny_14, if_pos (by rw [iI_le (by omega) (by omega) (by omega) (by omega)]; omega), sX3_isBelowAny_60, sX3_isBelowAny_61 fit_b, tFor]
  | succ d ih =>
    intro j p h0 h1
    have bq : ∀ Q, Cl r 47 [vR (some (A a)), vR (some (A j))] h Q ↔ _ := fun Q => c_isBelow x' ha ⟨h0, by omega⟩
    have gj := fun Q => gt r j Q h0 (by omega)
    have kj := (kk j h0 (by omega)).1
    have ka := (kk a ha.1 ha.2).1
    have nx := fun p' => ih (j + 1) p' (by omega) (by omega)
    have ej : iI j + (1 : Int32) = iI (j + 1) := by rw [i_1, iI_add]
    have eh : (iI s >>> (iI j &&& 31)) &&& (1 : Int32) = iI (if sHas s j = true then 1 else 0) := iI_has hs h0 (by omega)
    rw [sX3_isBelowAny_5, sX3_isBelowAny_7, sX3_isBelowAny_8 ku, ru, sX3_isBelowAny_11 kl, sz, Kt_v, sX3_isBelowAny_14, if_neg (by rw [iI_le (by omega) (by omega) (by omega) (by omega)]; omega), sX3_isBelowAny_17, sX3_isBelowAny_18, sX3_isBelowAny_19, sX3_isBelowAny_21, sX3_isBelowAny_22, sX3_isBelowAny_23, eh, sX3_isBelowAny_24, sX3_isBelowAny_25, tFor]
    have fin : ∀ q : Bool, Rn r 139 52 [some (vR (some u)), some (vR (some (A a))), some (vI (iI s)), some (vI (bI (p = true))), some (vI (iI j))] [vI (bI (q = true)), vI (bI (p = true))] h Q ↔ Q (Sum.inl (some (vI (bI (tFor (fun q z => z || (sHas s q && bel U w a q)) d (j + 1) (p || q) = true))))) h := fun q => by
      rw [sX3_isBelowAny_52, bI_or, sX3_isBelowAny_53, sX3_isBelowAny_54, ej, sX3_isBelowAny_57]
      exact nx (p || q)
    by_cases hh : sHas s j = true
    · rw [if_pos hh, if_neg (fun z => z rfl), sX3_isBelowAny_28, sX3_isBelowAny_29, sX3_isBelowAny_30 ku, ru, sX3_isBelowAny_33, sX3_isBelowAny_35 kl, gj, Kt_v, sX3_isBelowAny_38 (by rw [kj]; decide), sX3_isBelowAny_41 ka, bq, Kt_v, sX3_isBelowAny_44, hh, Bool.true_and, i_0]
      by_cases q : bel U w a j = true
      · rw [if_neg (fun z => bI_0.mp z q), sX3_isBelowAny_47, sX3_isBelowAny_48, q]
        exact fin true
      · rw [if_pos (bI_0.mpr q), sX3_isBelowAny_51, Bool.eq_false_iff.mpr q]
        exact fin false
    · rw [if_neg hh, if_pos (by decide), sX3_isBelowAny_51, Bool.eq_false_iff.mpr hh, Bool.false_and]
      exact fin false
theorem c_isBelowAny (x : KX h v u lk U w A) (ha : 0 ≤ a ∧ a < U 3 w) (hs : sOk s) : Cl r 139 [vR (some u), vR (some (A a)), vI (iI s)] h Q ↔ Q (Sum.inl (some (vI (bI (und U w a s = true))))) h := by
  have n3 := x.raw.2.2.1
  rw [eX3_isBelowAny, sX3_isBelowAny_0, sX3_isBelowAny_1, sX3_isBelowAny_2, sX3_isBelowAny_3]
  exact c_anyL x ha hs (U 3 w).toNat 0 false (by omega) (by omega)
theorem c_woL (x : KX h v u lk U w A) (hs : sOk s) (ho : sOk o) : ∀ (d : Nat) (j z : Int), 0 ≤ j → j + d = U 3 w → sOk z →
    (Rn r 178 5 [some (vR (some u)), some (vI (iI s)), some (vI (iI o)), some (vI (iI z)), some (vI (iI j))] [] h Q ↔ Q (Sum.inl (some (vI (iI (tFor (fun k a => sOr a (if sHas s k = true ∧ und U w k o = false then sOnly k else 0)) d j z))))) h) := by
  have x' := x
  obtain ⟨ku, ru, n3, kk, sz, gt, kl⟩ := x.raw
  intro d
  induction d with
  | zero =>
    intro j z h0 h1 hz
    rw [sX3_without_5, sX3_without_7, sX3_without_8 ku, ru, sX3_without_11 kl, sz, Kt_v, sX3_without_14, if_pos (by rw [iI_le (by omega) (by omega) (by omega) (by omega)]; omega), sX3_without_64, sX3_without_65, tFor]
  | succ d ih =>
    intro j z h0 h1 hz
    have bq : ∀ Q, Cl r 139 [vR (some u), vR (some (A j)), vI (iI o)] h Q ↔ _ := fun Q => c_isBelowAny x' ⟨h0, by omega⟩ ho
    have gj := fun Q => gt r j Q h0 (by omega)
    have kj := (kk j h0 (by omega)).1
    have ej : iI j + (1 : Int32) = iI (j + 1) := by rw [i_1, iI_add]
    have eh : (iI s >>> (iI j &&& 31)) &&& (1 : Int32) = iI (if sHas s j = true then 1 else 0) := iI_has hs h0 (by omega)
    have es : (1 : Int32) <<< (iI j &&& 31) = iI (sBit j) := iI_shl h0 (by omega)
    rw [sX3_without_5, sX3_without_7, sX3_without_8 ku, ru, sX3_without_11 kl, sz, Kt_v, sX3_without_14, if_neg (by rw [iI_le (by omega) (by omega) (by omega) (by omega)]; omega), sX3_without_17, sX3_without_18, sX3_without_19, sX3_without_21, sX3_without_22, sX3_without_23, eh, sX3_without_24, sX3_without_25, tFor]
    have fin : ∀ q : Int, sOk q → (Rn r 178 56 [some (vR (some u)), some (vI (iI s)), some (vI (iI o)), some (vI (iI z)), some (vI (iI j))] [vI (iI q), vI (iI z)] h Q ↔ Q (Sum.inl (some (vI (iI (tFor (fun k a => sOr a (if sHas s k = true ∧ und U w k o = false then sOnly k else 0)) d (j + 1) (sOr z q)))))) h) := fun q hq => by
      rw [sX3_without_56, iI_or hz hq, sX3_without_57, sX3_without_58, ej, sX3_without_61]
      exact ih (j + 1) _ (by omega) (by omega) (sOr_ok hz hq)
    by_cases hh : sHas s j = true
    · rw [if_pos hh, if_neg (fun z => z rfl), sX3_without_28, sX3_without_29, sX3_without_30 ku, ru, sX3_without_33, sX3_without_35 kl, gj, Kt_v, sX3_without_38 (by rw [kj]; decide), sX3_without_41, sX3_without_42 ku, bq, Kt_v, sX3_without_45, i_0]
      by_cases q : und U w j o = true
      · rw [if_pos (bI_1.mpr q), sX3_without_55, if_neg (fun e => by rw [q] at e; exact absurd e.2 (by decide))]
        exact fin 0 sOk0
      · rw [if_neg (fun z => q (bI_1.mp z)), sX3_without_48, sX3_without_49, sX3_without_51, es, sX3_without_52, if_pos ⟨hh, Bool.eq_false_iff.mpr q⟩]
        have := fin (sBit j) (sBit_ok h0 (by omega))
        unfold sOnly
        rw [if_neg (by omega)]
        exact this
    · rw [if_neg hh, if_pos (by decide), sX3_without_55, if_neg (fun e => hh e.1)]
      exact fin 0 sOk0
theorem c_without (x : KX h v u lk U w A) (hs : sOk s) (ho : sOk o) : Cl r 178 [vR (some u), vI (iI s), vI (iI o)] h Q ↔ Q (Sum.inl (some (vI (iI (wout U w s o))))) h := by
  have n3 := x.raw.2.2.1
  rw [eX3_without, sX3_without_0, sX3_without_1, sX3_without_2, sX3_without_3]
  exact c_woL x hs ho (U 3 w).toNat 0 0 (by omega) (by omega) sOk0
end KQS
