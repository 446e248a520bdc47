/-! PURE: reading goes on till its end *-/
section RUN
variable {w : Int} {S U : tSt}
theorem tRun_done : ∀ (d : Nat) (S U : tSt), PI w S U → (S 52 0 = -1 → (2000 - S 49 0).toNat < d) → tMore (tRun w d S U).1 = false ∧ PI w (tRun w d S U).1 (tRun w d S U).2 := by
  intro d
  induction d with
  | zero =>
    intro S U hP hm
    refine ⟨?_, hP⟩
    show tMore S = false
    have q : ¬ S 52 0 = -1 := fun e => by have := hm e; omega
    unfold tMore
    simp only [q, decide_false, Bool.false_and]
  | succ d ih =>
    intro S U hP hm
    unfold tRun
    by_cases q : tMore S = true
    · rw [if_pos q]
      have pr := Prg_step hP q
      have pk := PI_step hP
      exact ih _ _ pk (by
        intro e
        rcases pr with z | z
        · exact absurd e z
        · have := pk.1.2.1
          have := hm (by unfold tMore at q; simp only [Bool.and_eq_true, decide_eq_true_eq] at q; exact q.1)
          omega)
    · rw [if_neg q]
      exact ⟨by simpa using q, hP⟩
theorem tRun_stay (h : tMore S = false) : ∀ d : Nat, tRun w d S U = (S, U) := by
  intro d
  cases d with
  | zero => rfl
  | succ d =>
    unfold tRun
    rw [if_neg (by rw [h]; decide)]
theorem tRun_add : ∀ (d e : Nat) (S U : tSt), tRun w (d + e) S U = tRun w e (tRun w d S U).1 (tRun w d S U).2 := by
  intro d
  induction d with
  | zero => intro e S U; rw [Nat.zero_add]; rfl
  | succ d ih =>
    intro e S U
    by_cases q : tMore S = true
    · have one : ∀ k, tRun w (k + 1) S U = tRun w k (tStep w S U).1 (tStep w S U).2 := fun k => by
        rw [tRun, if_pos q]
      rw [show d + 1 + e = (d + e) + 1 by omega, one, one]
      exact ih _ _ _
    · have q2 : tMore S = false := by simpa using q
      rw [tRun_stay q2, tRun_stay q2, tRun_stay q2]
/-- from a state to a later one -/
def tGo (w : Int) (X Y : tSt × tSt) : Prop := ∃ n, tRun w n X.1 X.2 = Y
theorem tGo_refl (X : tSt × tSt) : tGo w X X := ⟨0, rfl⟩
theorem tGo_trans {X Y Z : tSt × tSt} (a : tGo w X Y) (b : tGo w Y Z) : tGo w X Z := by
  obtain ⟨n, rfl⟩ := a
  obtain ⟨k, rfl⟩ := b
  exact ⟨n + k, tRun_add n k _ _⟩
theorem tGo_one (h : tMore S = true) : tGo w (S, U) (tStep w S U) := ⟨1, by
  show tRun w 1 S U = _
  unfold tRun
  rw [if_pos h]
  rfl⟩
/-- where reading goes to and stays is where it ends -/
theorem tGo_end {d : Nat} {X Y : tSt × tSt} (g : tGo w X Y) (hY : tMore Y.1 = false) (hP : PI w X.1 X.2) (hd : X.1 52 0 = -1 → (2000 - X.1 49 0).toNat < d) : tRun w d X.1 X.2 = Y := by
  obtain ⟨n, e⟩ := g
  have a := tRun_add (w := w) d n X.1 X.2
  have b := tRun_add (w := w) n d X.1 X.2
  rw [tRun_stay (tRun_done d _ _ hP hd).1] at a
  rw [e, tRun_stay hY, Nat.add_comm] at b
  exact a.symm.trans b
end RUN
