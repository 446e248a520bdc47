/-! COMPONENT, 118: what a parameter can be when it is thrown again (285) *-/
section AGP
variable {w cc z : Int} {U : tSt} {c : Int → Int}
theorem tFor_has {G : Int → Int → Int} {E : Int → Prop} (hG : ∀ k a, sHas (G k a) z = true ↔ sHas a z = true ∨ E k) : ∀ (n : Nat) (i a : Int), sHas (tFor G n i a) z = true ↔ sHas a z = true ∨ ∃ k, i ≤ k ∧ k < i + n ∧ E k := by
  intro n
  induction n with
  | zero =>
    intro i a
    constructor
    · intro h; exact Or.inl h
    · rintro (h | ⟨k, h1, h2, _⟩)
      · exact h
      · omega
  | succ n ih =>
    intro i a
    rw [tFor, ih, hG]
    constructor
    · rintro ((h | h) | ⟨k, h1, h2, h3⟩)
      · exact Or.inl h
      · exact Or.inr ⟨i, by omega, by omega, h⟩
      · exact Or.inr ⟨k, by omega, by omega, h3⟩
    · rintro (h | ⟨k, h1, h2, h3⟩)
      · exact Or.inl (Or.inl h)
      · by_cases e : k = i
        · rw [e] at h3; exact Or.inl (Or.inr h3)
        · exact Or.inr ⟨k, by omega, by omega, h3⟩
theorem s_ext {a b : Int} (ha : 0 ≤ a) (hb : 0 ≤ b) (h : ∀ z, sHas a z = true ↔ sHas b z = true) : a = b := by
  have : a.toNat = b.toNat := Nat.eq_of_testBit_eq (fun i => by
    have := h i
    unfold sHas at this
    rw [Int.toNat_natCast] at this
    exact Bool.eq_iff_iff.mpr this)
  omega
/-- what kind k and a caught kind q give -/
def agF (U : tSt) (w k q : Int) : Int := if bel U w k q = true then sOnly k else if bel U w q k = true then sOnly q else 0
def agI (U : tSt) (w cc k : Int) (i a : Int) : Int := if cK U w cc i = -1 then a else sOr a (agF U w k (cK U w cc i))
def agC (U : tSt) (w cc may : Int) : Int := tFor (fun k a => if sHas may k = true then tFor (agI U w cc k) (U 37 cc).toNat 0 a else a) (U 3 w).toNat 0 0
theorem agF_ok {k q : Int} (hk : 0 ≤ k ∧ k < 16) (hq : 0 ≤ q ∧ q < 16) : sOk (agF U w k q) := by
  unfold agF
  split
  · exact sOnly_ok (by omega) (by omega)
  · split
    · exact sOnly_ok (by omega) (by omega)
    · exact sOk0
theorem agI_ok (qw : QW w U) {k : Int} (hk : 0 ≤ k ∧ k < 16) {i a : Int} (ha : sOk a) : sOk (agI U w cc k i a) := by
  have b := kO_b (U := U) (w := w) (x := U 38 (4 * cc + i)) (a := U 39 (4 * cc + i)) qw.1
  have n3 := qw.1
  unfold agI
  split
  · exact ha
  · exact sOr_ok ha (agF_ok hk (by unfold cK at *; omega))
theorem tFor_okk {G : Int → Int → Int} (hG : ∀ k a, 0 ≤ k → k < 16 → sOk a → sOk (G k a)) : ∀ (n : Nat) (i a : Int), 0 ≤ i → i + n ≤ 16 → sOk a → sOk (tFor G n i a) := by
  intro n
  induction n with
  | zero => intro i a _ _ h; exact h
  | succ n ih => intro i a h0 h1 h; exact ih _ _ (by omega) (by omega) (hG _ _ h0 (by omega) h)
theorem agC_eq (qw : QW w U) : agC U w cc (wout U w (sOr (ins U w c (cc / 4)) 12) (ahd U w cc)) = agn U w c cc := by
  have n3 := qw.1
  have ok1 : ∀ may, 0 ≤ agC U w cc may := fun may => by
    refine (tFor_ok _ (fun a => 0 ≤ a) (fun k a h => ?_) _ _ _ (Int.le_refl _))
    split
    · exact tFor_ok _ (fun a => 0 ≤ a) (fun i a h => by
        unfold agI sOr
        split
        · exact h
        · omega) _ _ _ h
    · exact h
  have ok2 : 0 ≤ agn U w c cc := by
    unfold agn
    refine (tFor_ok _ (fun a => 0 ≤ a) (fun k a h => ?_) _ _ _ (Int.le_refl _))
    refine tFor_ok _ (fun a => 0 ≤ a) (fun i a h => ?_) _ _ _ h
    split
    · unfold sOr; omega
    · exact h
  refine s_ext (ok1 _) ok2 (fun z => ?_)
  unfold agC agn
  generalize wout U w (sOr (ins U w c (cc / 4)) 12) (ahd U w cc) = may
  rw [tFor_has (E := fun k => sHas may k = true ∧ ∃ i, 0 ≤ i ∧ i < 0 + ((U 37 cc).toNat : Int) ∧ (cK U w cc i ≠ -1 ∧ sHas (agF U w k (cK U w cc i)) z = true)) (fun k a => ?_), tFor_has (E := fun k => ∃ q, 0 ≤ q ∧ q < 0 + ((U 3 w).toNat : Int) ∧ ((sHas may k = true ∧ sHas (cBy U w cc) q = true) ∧ sHas (agF U w k q) z = true)) (fun k a => ?_)]
  · constructor
    · rintro (h | ⟨k, h1, h2, h3, i, i1, i2, i3, i4⟩)
      · exact Or.inl h
      · have b := kO_b (U := U) (w := w) (x := U 38 (4 * cc + i)) (a := U 39 (4 * cc + i)) qw.1
        have b' : -1 ≤ cK U w cc i ∧ cK U w cc i < U 3 w := b
        refine Or.inr ⟨k, h1, h2, cK U w cc i, by omega, by omega, ⟨h3, ?_⟩, i4⟩
        unfold cBy
        rw [sHas_for]
        exact Or.inr ⟨i, i1, i2, (sHas_only (by omega) (by omega)).mpr rfl⟩
    · rintro (h | ⟨k, h1, h2, q, q1, q2, ⟨q3, q4⟩, q5⟩)
      · exact Or.inl h
      · unfold cBy at q4
        rw [sHas_for] at q4
        rcases q4 with q4 | ⟨i, i1, i2, i3⟩
        · rw [sHas_0] at q4; cases q4
        · have b := kO_b (U := U) (w := w) (x := U 38 (4 * cc + i)) (a := U 39 (4 * cc + i)) qw.1
          have b' : -1 ≤ cK U w cc i ∧ cK U w cc i < U 3 w := b
          have e := (sHas_only q1 b'.1).mp i3
          refine Or.inr ⟨k, h1, h2, q3, i, i1, i2, by omega, ?_⟩
          rw [e]; exact q5
  · refine tFor_has (fun q a => ?_) _ _ _
    by_cases y : sHas may k = true ∧ sHas (cBy U w cc) q = true
    · rw [if_pos y, sHas_or, Bool.or_eq_true]
      constructor
      · rintro (h | h)
        · exact Or.inl h
        · exact Or.inr ⟨y, h⟩
      · rintro (h | h)
        · exact Or.inl h
        · exact Or.inr h.2
    · rw [if_neg y]
      constructor
      · intro h; exact Or.inl h
      · rintro (h | h)
        · exact h
        · exact absurd h.1 y
  · by_cases y : sHas may k = true
    · rw [if_pos y, tFor_has (E := fun i => cK U w cc i ≠ -1 ∧ sHas (agF U w k (cK U w cc i)) z = true) (fun i a => ?_)]
      · constructor
        · rintro (h | h)
          · exact Or.inl h
          · exact Or.inr ⟨y, h⟩
        · rintro (h | h)
          · exact Or.inl h
          · exact Or.inr h.2
      · unfold agI
        by_cases x : cK U w cc i = -1
        · rw [if_pos x]
          constructor
          · intro h; exact Or.inl h
          · rintro (h | h)
            · exact h
            · exact absurd x h.1
        · rw [if_neg x, sHas_or, Bool.or_eq_true]
          constructor
          · rintro (h | h)
            · exact Or.inl h
            · exact Or.inr ⟨x, h⟩
          · rintro (h | h)
            · exact Or.inl h
            · exact Or.inr h.2
    · rw [if_neg y]
      constructor
      · intro h; exact Or.inl h
      · rintro (h | h)
        · exact h
        · exact absurd h.1 y
end AGP
