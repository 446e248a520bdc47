/-! PURE: the sweeps end, by ranks; their end is the only solution *-/
section RK
variable {w : Int} {U S : tSt} {l : Int → Int} {n : Nat} {ρ : Nat → Nat}
/-- what a statement can throw hangs on statements of lower rank alone -/
def Sdep (U : tSt) (w : Int) (l : Int → Int) (n : Nat) (ρ : Nat → Nat) : Prop := ∀ (c c' : Int → Int) (d : Nat), d < n → (∀ e : Nat, e < n → ρ e < ρ d → c (w * 120 + e) = c' (w * 120 + e)) → can U w c l (w * 120 + d) = can U w c' l (w * 120 + d)
/-- a solution up to a rank -/
def Sfix (U : tSt) (w : Int) (n : Nat) (ρ : Nat → Nat) (k : Nat) (S : tSt) : Prop := ∀ e : Nat, e < n → ρ e < k → S 58 (w * 120 + e) = can U w (S 58) (S 59) (w * 120 + e)
theorem up_58 {j x i : Int} : up S 58 j x 58 i = if i = j then x else S 58 i := by
  rw [up_eq]
  by_cases q : i = j
  · rw [if_pos ⟨rfl, q⟩, if_pos q]
  · rw [if_neg (fun z => q z.2), if_neg q]
theorem up_59 {j x : Int} : up S 58 j x 59 = S 59 := by
  funext i
  rw [up_eq, if_neg (fun z => absurd z.1 (by decide))]
theorem tSwp_rank (hs : Sdep U w l n ρ) (k : Nat) : ∀ (d : Nat) (S : tSt) (b : Bool), d ≤ n → S 59 = l → Sfix U w n ρ k S → (∀ e : Nat, e < n → d ≤ e → ρ e = k → S 58 (w * 120 + e) = can U w (S 58) (S 59) (w * 120 + e)) →
    (tSwp U w d S b).1 59 = l ∧ Sfix U w n ρ (k + 1) (tSwp U w d S b).1 := by
  intro d
  induction d with
  | zero =>
    intro S b _ hl hA hB
    refine ⟨hl, fun e e1 e2 => ?_⟩
    by_cases q : ρ e < k
    · exact hA e e1 q
    · exact hB e e1 (by omega) (by omega)
  | succ d ih =>
    intro S b hd hl hA hB
    unfold tSwp
    have ag : ∀ e : Nat, e < n → ρ e < k → up S 58 (w * 120 + d) (can U w (S 58) (S 59) (w * 120 + d)) 58 (w * 120 + e) = S 58 (w * 120 + e) := by
      intro e e1 e2
      rw [up_58]
      split
      · rename_i z
        have : e = d := by omega
        subst this
        exact (hA e e1 e2).symm
      · rfl
    have cn : ∀ e : Nat, e < n → ρ e ≤ k → can U w (up S 58 (w * 120 + d) (can U w (S 58) (S 59) (w * 120 + d)) 58) l (w * 120 + e) = can U w (S 58) l (w * 120 + e) := by
      intro e e1 e2
      exact hs _ _ e e1 (fun e' a b => ag e' a (by omega))
    refine ih _ _ (by omega) (up_59.trans hl) ?_ ?_
    · intro e e1 e2
      rw [up_59, ag e e1 e2, hl]
      rw [hl] at cn
      rw [cn e e1 (by omega), hA e e1 e2, hl]
    · intro e e1 e2 e3
      have z := cn e e1 (by omega)
      rw [up_59]
      rw [hl] at z ⊢
      rw [z, up_58]
      split
      · rename_i y
        have : e = d := by omega
        subst this
        rfl
      · rename_i y
        have := hB e e1 (by have : e ≠ d := fun t => y (by rw [t]); omega) e3
        rw [hl] at this
        exact this
theorem tSwp_same (hA : ∀ e : Nat, e < n → S 58 (w * 120 + e) = can U w (S 58) (S 59) (w * 120 + e)) : ∀ d : Nat, d ≤ n → tSwp U w d S false = (S, false) := by
  intro d
  induction d with
  | zero => intro _; rfl
  | succ d ih =>
    intro hd
    unfold tSwp
    rw [← hA d (by omega)]
    have e : up S 58 (w * 120 + d) (S 58 (w * 120 + d)) = S := by
      funext f j
      rw [up_eq]
      split
      · rename_i z; rw [z.1, z.2]
      · rfl
    rw [e]
    simp only [ne_eq, not_true_eq_false, decide_false, Bool.or_false]
    exact ih (by omega)
theorem tStops_rank (hs : Sdep U w l n ρ) : ∀ (j k : Nat) (S : tSt), S 59 = l → Sfix U w n ρ k S → (∀ e, e < n → ρ e < k + j) → tStops U w n (j + 1) S := by
  intro j
  induction j with
  | zero =>
    intro k S hl hA hr
    unfold tStops
    left
    rw [tSwp_same (n := n) (fun e e1 => hA e e1 (hr e e1)) n (Nat.le_refl _)]
  | succ j ih =>
    intro k S hl hA hr
    unfold tStops
    right
    have z := tSwp_rank hs k n S false (Nat.le_refl _) hl hA (fun e e1 e2 _ => absurd e1 (by omega))
    exact ih (k + 1) _ z.1 z.2 (fun e e1 => by have := hr e e1; omega)
theorem tSwp_none : ∀ (d : Nat) (S : tSt) (b : Bool), (tSwp U w d S b).2 = false → b = false ∧ (tSwp U w d S b).1 = S ∧ ∀ e : Nat, e < d → S 58 (w * 120 + e) = can U w (S 58) (S 59) (w * 120 + e) := by
  intro d
  induction d with
  | zero => intro S b h; exact ⟨h, rfl, fun e he => absurd he (by omega)⟩
  | succ d ih =>
    intro S b h
    unfold tSwp at h ⊢
    obtain ⟨z1, z2, z3⟩ := ih _ _ h
    rw [Bool.or_eq_false_iff] at z1
    have q : can U w (S 58) (S 59) (w * 120 + d) = S 58 (w * 120 + d) := Classical.byContradiction fun t => by
      have := z1.2
      rw [decide_eq_true t] at this
      cases this
    have e9 : up S 58 (w * 120 + d) (can U w (S 58) (S 59) (w * 120 + d)) = S := up_self q.symm
    rw [e9] at z2 z3 ⊢
    refine ⟨z1.1, z2, fun e he => ?_⟩
    by_cases t : e = d
    · rw [t]; exact q.symm
    · exact z3 e (by omega)
/-- the sweeps' end solves the equations -/
theorem tSwps_fix (hs : Sdep U w l n ρ) : ∀ (j k : Nat) (S : tSt), S 59 = l → Sfix U w n ρ k S → (∀ e, e < n → ρ e < k + j) → Sfix U w n ρ (k + j) (tSwps U w n (j + 1) S) := by
  intro j
  induction j with
  | zero =>
    intro k S hl hA hr
    unfold tSwps
    rw [tSwp_same (n := n) (fun e e1 => hA e e1 (hr e e1)) n (Nat.le_refl _)]
    exact hA
  | succ j ih =>
    intro k S hl hA hr
    unfold tSwps
    have z := tSwp_rank hs k n S false (Nat.le_refl _) hl hA (fun e e1 e2 _ => absurd e1 (by omega))
    have y := ih (k + 1) _ z.1 z.2 (fun e e1 => by have := hr e e1; omega)
    rw [show k + 1 + j = k + (j + 1) by omega] at y
    split
    · exact y
    · rename_i q
      have x := tSwp_none n S false (by simpa using q)
      rw [x.2.1]
      exact fun e e1 _ => x.2.2 e e1
/-- two solutions are one -/
theorem Sfix_one (hs : Sdep U w l n ρ) {c c' : Int → Int} (h1 : ∀ e : Nat, e < n → c (w * 120 + e) = can U w c l (w * 120 + e)) (h2 : ∀ e : Nat, e < n → c' (w * 120 + e) = can U w c' l (w * 120 + e)) :
    ∀ (k e : Nat), e < n → ρ e < k → c (w * 120 + e) = c' (w * 120 + e) := by
  intro k
  induction k with
  | zero => intro e _ h; omega
  | succ k ih =>
    intro e e1 e2
    rw [h1 e e1, h2 e e1]
    exact hs c c' e e1 (fun e' a b => ih e' a (by omega))
end RK
