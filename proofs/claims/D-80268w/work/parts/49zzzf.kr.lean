/-! COMPONENT, 3: checked, bitsOf, mistakes *-/
section KRS
variable {r u lk : Nat} {h : am_H} {v : vT} {U : tSt} {w k a b s o : Int} {A : Int → Nat} {Q : am_O → am_H → Prop}
theorem c_chL (x : KX h v u lk U w A) (hs : sOk s) : ∀ (d : Nat) (j z : Int), 0 ≤ j → j + d = U 3 w → sOk z →
    (Rn r 177 4 [some (vR (some u)), some (vI (iI s)), some (vI (iI z)), some (vI (iI j))] [] h Q ↔ Q (Sum.inl (some (vI (iI (tFor (fun k a => sOr a (if sHas s k = true ∧ chk U w k = true then sOnly k else 0)) d j z))))) h) := by
  have x' := x
  obtain ⟨ku, ru, n3, kk, sz, gt, kl⟩ := x.raw
  intro d
  induction d with
  | zero =>
    intro j z h0 h1 hz
    rw [sX3_checked_4, sX3_checked_5, sX3_checked_6 ku, ru, sX3_checked_9 kl, sz, Kt_v, sX3_checked_12, if_pos (by rw [iI_le (by omega) (by omega) (by omega) (by omega)]; omega), sX3_checked_58, sX3_checked_59, tFor]
  | succ d ih =>
    intro j z h0 h1 hz
    have bq : ∀ Q, Cl r 44 [vR (some u), vR (some (A j))] h Q ↔ _ := fun Q => c_isChecked x' ⟨h0, by omega⟩
    have gj := fun Q => gt r j Q h0 (by omega)
    have kj := (kk j h0 (by omega)).1
    have ej : iI j + (1 : Int32) = iI (j + 1) := by rw [i_1, iI_add]
    have eh : (iI s >>> (iI j &&& 31)) &&& (1 : Int32) = iI (if sHas s j = true then 1 else 0) := iI_has hs h0 (by omega)
    have es : (1 : Int32) <<< (iI j &&& 31) = iI (sBit j) := iI_shl h0 (by omega)
    rw [sX3_checked_4, sX3_checked_5, sX3_checked_6 ku, ru, sX3_checked_9 kl, sz, Kt_v, sX3_checked_12, if_neg (by rw [iI_le (by omega) (by omega) (by omega) (by omega)]; omega), sX3_checked_15, sX3_checked_16, sX3_checked_17, sX3_checked_18, sX3_checked_19, sX3_checked_20, eh, sX3_checked_21, sX3_checked_22, tFor]
    have fin : ∀ q : Int, sOk q → (Rn r 177 50 [some (vR (some u)), some (vI (iI s)), some (vI (iI z)), some (vI (iI j))] [vI (iI q), vI (iI z)] h Q ↔ Q (Sum.inl (some (vI (iI (tFor (fun k a => sOr a (if sHas s k = true ∧ chk U w k = true then sOnly k else 0)) d (j + 1) (sOr z q)))))) h) := fun q hq => by
      rw [sX3_checked_50, iI_or hz hq, sX3_checked_51, sX3_checked_52, ej, sX3_checked_55]
      exact ih (j + 1) _ (by omega) (by omega) (sOr_ok hz hq)
    by_cases hh : sHas s j = true
    · rw [if_pos hh, if_neg (fun z => z rfl), sX3_checked_25, sX3_checked_26, sX3_checked_27 ku, ru, sX3_checked_30, sX3_checked_31 kl, gj, Kt_v, sX3_checked_34 (by rw [kj]; decide), sX3_checked_37 ku, bq, Kt_v, sX3_checked_40, i_0]
      by_cases q : chk U w j = true
      · rw [if_neg (fun z => bI_0.mp z q), sX3_checked_43, sX3_checked_44, sX3_checked_45, es, sX3_checked_46, if_pos ⟨hh, q⟩]
        have := fin (sBit j) (sBit_ok h0 (by omega))
        unfold sOnly
        rw [if_neg (by omega)]
        exact this
      · rw [if_pos (bI_0.mpr q), sX3_checked_49, if_neg (fun e => q e.2)]
        exact fin 0 sOk0
    · rw [if_neg hh, if_pos (by decide), sX3_checked_49, if_neg (fun e => hh e.1)]
      exact fin 0 sOk0
theorem c_checked (x : KX h v u lk U w A) (hs : sOk s) : Cl r 177 [vR (some u), vI (iI s)] h Q ↔ Q (Sum.inl (some (vI (iI (chO U w s))))) h := by
  have n3 := x.raw.2.2.1
  rw [eX3_checked, sX3_checked_0, sX3_checked_1, sX3_checked_2, sX3_checked_3]
  exact c_chL x hs (U 3 w).toNat 0 0 (by omega) (by omega) sOk0
/-- a list of names with what they mean: kf the kinds (-1: none), pf the places -/
def NL (v : vT) (A : Int → Nat) (l : Nat) (n : Int) (kf pf : Int → Int) : Prop :=
  hK v.1 l = 4 ∧ (vLs v l).length = n.toNat ∧ 0 ≤ n ∧ ∀ i, 0 ≤ i → i < n → ∃ e, (vLs v l).getD i.toNat none = some e ∧ hK v.1 e = 19 ∧ hR v.1 e 0 = optA A (kf i) ∧ hI v.1 e 1 = iI (pf i)
theorem NL.raw {l : Nat} {n : Int} {kf pf : Int → Int} (c : CR h v) (x : NL v A l n kf pf) : hK h l = 4 ∧ 0 ≤ n ∧ (∀ r Q, Cl r 34 [vR (some l)] h Q ↔ Q (Sum.inl (some (vI (iI n)))) h) ∧
    ∀ i, 0 ≤ i → i < n → ∃ e, (∀ r Q, Cl r 43 [vR (some l), vI (iI i)] h Q ↔ Q (Sum.inl (some (vR (some e)))) h) ∧ hK h e = 19 ∧ hR h e 0 = optA A (kf i) ∧ hI h e 1 = iI (pf i) := by
  obtain ⟨k1, k2, k3, k4⟩ := x
  refine ⟨c.kk k1 (by decide), k3, fun r Q => ?_, fun i h0 h1 => ?_⟩
  · rw [v_size c k1, k2, show ((n.toNat : Nat) : Int) = n by omega]
  · obtain ⟨e, e1, e2, e3, e4⟩ := k4 i h0 h1
    refine ⟨e, fun r Q => ?_, c.kk e2 (by decide), by rw [c.rr e2 rfl]; exact e3, by rw [c.ii e2 rfl]; exact e4⟩
    rw [v_get c k1 h0 (by rw [k2]; omega), e1]
theorem optA_s {k : Int} (q : k ≠ -1) : optA A k = some (A k) := if_neg q
theorem optA_n : optA A (-1) = none := rfl
theorem c_boL {l : Nat} {n : Int} {kf pf : Int → Int} (x : KX h v u lk U w A) (y : NL v A l n kf pf) (n4 : n ≤ 100000) (kb : ∀ i, 0 ≤ i → i < n → -1 ≤ kf i ∧ kf i < U 3 w) : ∀ (d : Nat) (j z : Int), 0 ≤ j → j + d = n → sOk z →
    (Rn r 49 4 [some (vR (some u)), some (vR (some l)), some (vI (iI z)), some (vI (iI j))] [] h Q ↔ Q (Sum.inl (some (vI (iI (tFor (fun k a => sOr a (sOnly (kf k))) d j z))))) h) := by
  obtain ⟨kl, n0, sz, gt⟩ := y.raw x.1
  obtain ⟨ku, ru, n3, kk, _, _, _⟩ := x.raw
  intro d
  induction d with
  | zero =>
    intro j z h0 h1 hz
    rw [sX3_bitsOf_4, sX3_bitsOf_5, sX3_bitsOf_6 kl, sz, Kt_v, sX3_bitsOf_9, if_pos (by rw [iI_le (by omega) (by omega) (by omega) (by omega)]; omega), sX3_bitsOf_55, sX3_bitsOf_56, tFor]
  | succ d ih =>
    intro j z h0 h1 hz
    obtain ⟨e, ge, ke, re, _⟩ := gt j h0 (by omega)
    have ej : iI j + (1 : Int32) = iI (j + 1) := by rw [i_1, iI_add]
    have fin : ∀ q : Int, sOk q → (Rn r 49 47 [some (vR (some u)), some (vR (some l)), some (vI (iI z)), some (vI (iI j))] [vI (iI q), vI (iI z)] h Q ↔ Q (Sum.inl (some (vI (iI (tFor (fun k a => sOr a (sOnly (kf k))) d (j + 1) (sOr z q)))))) h) := fun q hq => by
      rw [sX3_bitsOf_47, iI_or hz hq, sX3_bitsOf_48, sX3_bitsOf_49, ej, sX3_bitsOf_52]
      exact ih (j + 1) _ (by omega) (by omega) (sOr_ok hz hq)
    rw [sX3_bitsOf_4, sX3_bitsOf_5, sX3_bitsOf_6 kl, sz, Kt_v, sX3_bitsOf_9, if_neg (by rw [iI_le (by omega) (by omega) (by omega) (by omega)]; omega), sX3_bitsOf_12, sX3_bitsOf_13, sX3_bitsOf_14, sX3_bitsOf_15 kl, ge, Kt_v, sX3_bitsOf_18 (by rw [ke]; decide), sX3_bitsOf_21 ke, re, sX3_bitsOf_24, tFor]
    have kj := kb j h0 (by omega)
    by_cases q : kf j = -1
    · rw [q, optA_n, if_neg (fun z => z rfl), sX3_bitsOf_27, sX3_bitsOf_28, i_0]
      have := fin 0 sOk0
      unfold sOnly
      rw [if_pos rfl]
      exact this
    · obtain ⟨a1, a2, _⟩ := kk (kf j) (by omega) kj.2
      have es : (1 : Int32) <<< (iI (kf j) &&& 31) = iI (sBit (kf j)) := iI_shl (by omega) (by omega)
      rw [optA_s q, if_pos (by simp), sX3_bitsOf_31, sX3_bitsOf_32, sX3_bitsOf_33, sX3_bitsOf_34 kl, ge, Kt_v, sX3_bitsOf_37 (by rw [ke]; decide), sX3_bitsOf_40 ke, re, optA_s q, sX3_bitsOf_43 a1, a2, sX3_bitsOf_46, es]
      have := fin (sBit (kf j)) (sBit_ok (by omega) (by omega))
      unfold sOnly
      rw [if_neg (by omega)]
      exact this
theorem c_bitsOf {l : Nat} {n : Int} {kf pf : Int → Int} (x : KX h v u lk U w A) (y : NL v A l n kf pf) (n4 : n ≤ 100000) (kb : ∀ i, 0 ≤ i → i < n → -1 ≤ kf i ∧ kf i < U 3 w) :
    Cl r 49 [vR (some u), vR (some l)] h Q ↔ Q (Sum.inl (some (vI (iI (tFor (fun k a => sOr a (sOnly (kf k))) n.toNat 0 0))))) h := by
  have n0 := y.2.2.1
  rw [eX3_bitsOf, sX3_bitsOf_0, sX3_bitsOf_1, sX3_bitsOf_2, sX3_bitsOf_3]
  exact c_boL x y n4 kb n.toNat 0 0 (by omega) (by omega) sOk0
end KRS
