/-! PURE: what holds of the twin's state while a text is read -/
def TK (S : tSt) : Prop := S 49 0 ≤ S 47 0 ∧ S 50 0 * 2 < tB (S 47 0 - S 49 0).toNat ∧ (S 51 0 ≠ -1 → S 49 0 < S 47 0) ∧ (S 51 0 ≠ 0 → S 50 0 = 0)
/-- S' comes out of S by looking at tokens -/
def Tks (S S' : tSt) : Prop := SI S' ∧ TK S' ∧ S 49 0 ≤ S' 49 0 ∧ (∀ f, f ≠ 47 → f ≠ 49 → f ≠ 50 → f ≠ 51 → f ≠ 52 → f ≠ 53 → f ≠ 54 → S' f = S f) ∧ (S 52 0 ≠ -1 → S' 52 0 = S 52 0)
theorem Tks.rf {S : tSt} (h1 : SI S) (h2 : TK S) : Tks S S := ⟨h1, h2, Int.le_refl _, fun _ _ _ _ _ _ _ _ => rfl, fun _ => rfl⟩
theorem Tks.tr {S T V : tSt} (h1 : Tks S T) (h2 : Tks T V) : Tks S V := by
  obtain ⟨a1, a2, a3, a4, a5⟩ := h1
  obtain ⟨b1, b2, b3, b4, b5⟩ := h2
  exact ⟨b1, b2, Int.le_trans a3 b3, fun f q1 q2 q3 q4 q5 q6 q7 => (b4 f q1 q2 q3 q4 q5 q6 q7).trans (a4 f q1 q2 q3 q4 q5 q6 q7), fun q => by rw [b5 (by rw [a5 q]; exact q), a5 q]⟩
theorem TK_adv {S : tSt} (hS : SG S) : TK (tAdv S) := by
  have v := tAdv_val hS
  obtain ⟨g1, g2, g3, g4⟩ := hS
  refine ⟨by omega, ?_, v.2.2.2.2.2, ?_⟩
  rotate_left
  · unfold tAdv tTok tkX tkS
    simp only [up_eq, true_and, false_and, and_true, and_false, and_self, if_true, if_false, eq_self, Nat.reduceEqDiff, reduceIte]
    generalize tkP (S 0) (S 48 0) (S 47 0) = p
    repeat' split
    all_goals first | (intro _; rfl) | (intro q; exact absurd rfl q)
  have v9 := v
  unfold tAdv tTok at v9 ⊢
  simp only [up_eq, true_and, false_and, and_true, and_false, and_self, if_true, if_false, eq_self, Nat.reduceEqDiff, reduceIte] at v9 ⊢
  have hb := tSkip_b (S 0) (S 48 0 - S 47 0).toNat (S 47 0)
  rw [show tSkip (S 0) (S 48 0 - S 47 0).toNat (S 47 0) = tkP (S 0) (S 48 0) (S 47 0) from rfl] at hb
  generalize tkP (S 0) (S 48 0) (S 47 0) = p at *
  have pos : ∀ j, 0 * 2 < tB j := fun j => by have := tB_pos j; omega
  unfold tkQ tkX
  by_cases q1 : p = S 48 0
  · simp only [q1, if_true]
    exact pos _
  · simp only [q1, if_false]
    by_cases q2 : 97 ≤ S 0 p ∧ S 0 p ≤ 122
    · simp only [q2, if_true, and_self]
      by_cases q3 : 8 < tkE (S 0) (S 48 0) p - p
      · simp only [q3, if_true]
        exact pos _
      · simp only [q3, if_false]
        have key : ∀ (d : Nat) (p X : Int) (j : Nat), 0 ≤ X → X * 2 < tB j → tWv (S 0) d p X * 2 < tB (j + (tEnd (S 0) d p - p).toNat) := by
          intro d
          induction d with
          | zero => intro p X j _ h2; simp only [tWv, tEnd, Int.sub_self, Int.toNat_zero, Nat.add_zero]; exact h2
          | succ d ih =>
            intro p X j h1 h2
            simp only [tWv, tEnd]
            have g5 := g4 p
            by_cases q : 97 ≤ S 0 p ∧ S 0 p ≤ 122
            · rw [if_pos q, if_pos q]
              have hE := (tEnd_b (S 0) d (p + 1)).1
              have := ih (p + 1) (X * 256 + S 0 p) (j + 1) (by omega) (by simp only [tB]; omega)
              rw [show j + 1 + (tEnd (S 0) d (p + 1) - (p + 1)).toNat = j + (tEnd (S 0) d (p + 1) - p).toNat by omega] at this
              exact this
            · rw [if_neg q, if_neg q, Int.sub_self, Int.toNat_zero, Nat.add_zero]
              exact h2
        have := key (S 48 0 - p).toNat p 0 0 (by omega) (by simp only [tB]; omega)
        rw [Nat.zero_add] at this
        exact this
    · simp only [q2, if_false]
      exact pos _
theorem Tks_adv {S : tSt} (h1 : SI S) (h2 : TK S) : Tks S (tAdv S) := by
  have v := tAdv_val h1.1
  exact ⟨SI_adv h1, TK_adv h1.1, by have := h2.1; omega, fun f q1 q2 q3 q4 _ _ _ => tAdv_o f q1 q2 q3 q4, fun _ => congrFun (tAdv_o 52 (by decide) (by decide) (by decide) (by decide)) 0⟩
theorem Tks_fail {S : tSt} (h1 : SI S) (h2 : TK S) : Tks S (tFail S) := by
  refine ⟨SI_fail h1, ?_, ?_, fun f _ _ _ _ q5 _ _ => tFail_o f q5, fun q => ?_⟩
  · unfold TK
    rw [tFail_o 49 (by decide), tFail_o 47 (by decide), tFail_o 50 (by decide), tFail_o 51 (by decide)]
    exact h2
  · rw [tFail_o 49 (by decide)]
    exact Int.le_refl _
  · unfold tFail
    rw [up_s, if_neg q]
theorem Tks_name {S : tSt} (h1 : SI S) (h2 : TK S) : Tks S (tName S) := by
  unfold tName
  split
  · have a1 := SI_up53 h1
    have a2 : TK (up (up S 53 0 (S 50 0)) 54 0 (S 49 0)) := by unfold TK; simp only [up_eq, true_and, false_and, and_true, and_false, and_self, if_true, if_false, eq_self, Nat.reduceEqDiff, reduceIte]; exact h2
    have a3 := Tks_adv a1 a2
    obtain ⟨b1, b2, b3, b4, b5⟩ := a3
    simp only [up_eq, true_and, false_and, and_true, and_false, and_self, if_true, if_false, eq_self, Nat.reduceEqDiff, reduceIte] at b3 b5
    exact ⟨b1, b2, b3, fun f q1 q2 q3 q4 q5 q6 q7 => by rw [b4 f q1 q2 q3 q4 q5 q6 q7, up_n q7, up_n q6], b5⟩
  · exact Tks_fail h1 h2
theorem Tks_take {S : tSt} {s : Int} (h1 : SI S) (h2 : TK S) : Tks S (tTake S s) := by
  unfold tTake
  split
  · exact Tks_adv h1 h2
  · exact Tks_fail h1 h2
theorem Tks_thr {x : Int} : ∀ (d : Nat) (S U : tSt), SI S → TK S → Tks S (tThr x d S U).2.1
  | 0, S, U, h1, h2 => Tks.rf h1 h2
  | d + 1, S, U, h1, h2 => by
    have a1 := Tks_adv h1 h2
    have a2 := Tks_name a1.1 a1.2.1
    unfold tThr
    split
    · exact a1.tr (Tks_fail a1.1 a1.2.1)
    · split
      · split
        · exact (a1.tr a2).tr (Tks_thr d _ _ a2.1 a2.2.1)
        · exact a1.tr a2
      · exact a1.tr (Tks_fail a1.1 a1.2.1)
theorem Tks_nam {s u : Int} : ∀ (d : Nat) (S U : tSt), SI S → TK S → Tks S (tNam s u d S U).2.1
  | 0, S, U, h1, h2 => Tks.rf h1 h2
  | d + 1, S, U, h1, h2 => by
    have a1 := Tks_adv h1 h2
    have a2 := Tks_name a1.1 a1.2.1
    unfold tNam
    split
    · exact a1.tr (Tks_fail a1.1 a1.2.1)
    · split
      · split
        · exact (a1.tr a2).tr (Tks_nam d _ _ a2.1 a2.2.1)
        · exact (a1.tr a2).tr (Tks_take a2.1 a2.2.1)
      · exact a1.tr (Tks_fail a1.1 a1.2.1)
theorem Tks_cau {c : Int} : ∀ (d : Nat) (S U : tSt), SI S → TK S → Tks S (tCau c d S U).2.1
  | 0, S, U, h1, h2 => Tks.rf h1 h2
  | d + 1, S, U, h1, h2 => by
    have a1 := Tks_adv h1 h2
    have a2 := Tks_name a1.1 a1.2.1
    unfold tCau
    split
    · exact a1.tr (Tks_fail a1.1 a1.2.1)
    · split
      · split
        · exact (a1.tr a2).tr (Tks_cau d _ _ a2.1 a2.2.1)
        · exact a1.tr a2
      · exact a1.tr (Tks_fail a1.1 a1.2.1)
