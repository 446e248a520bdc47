/-! THE PROGRAM LOGIC over the abstract machine: Rn (from a frame), Cl (a call), Kt (behind a call) -/
def Rn (r i pc : Nat) (ls : List (Option am_V)) (st : List am_V) (h : am_H) (Q : am_O → am_H → Prop) : Prop := ∃ n o h', am_run am_prog n r i (pc, (ls, st)) h = some (o, h') ∧ Q o h'
def Cl (r m : Nat) (args : List am_V) (h : am_H) (Q : am_O → am_H → Prop) : Prop := ∃ pm, am_prog m = some pm ∧ Rn r m 0 (am_pad pm.1 (am_slots args)) [] h Q
def Kt (r i pc : Nat) (ls : List (Option am_V)) (st : List am_V) (Q : am_O → am_H → Prop) : am_O → am_H → Prop := fun o h' => match o with
  | .inl v => Rn r i pc ls (v.toList ++ st) h' Q
  | .inr q => Q (.inr q) h'
/-- behind a call with a handler of Wrong -/
def KtH (r i pc tgt : Nat) (ls : List (Option am_V)) (st : List am_V) (Q : am_O → am_H → Prop) : am_O → am_H → Prop := fun o h' => match o with
  | .inl v => Rn r i pc ls (v.toList ++ st) h' Q
  | .inr q => hK h' q = am_wrong ∧ Rn r i tgt ls [vR (some q)] h' Q
section LG
variable {r i pc : Nat} {ls : List (Option am_V)} {st : List am_V} {h : am_H} {Q Q' : am_O → am_H → Prop} {pm : am_M} {ai : am_I}
theorem Kt_v {v : am_V} : Kt r i pc ls st Q (Sum.inl (some v)) h ↔ Rn r i pc ls (v :: st) h Q := Iff.rfl
theorem Kt_0 : Kt r i pc ls st Q (Sum.inl none) h ↔ Rn r i pc ls st h Q := Iff.rfl
theorem Kt_x {q : Nat} : Kt r i pc ls st Q (Sum.inr q) h ↔ Q (Sum.inr q) h := Iff.rfl
theorem KtH_v {tgt : Nat} {v : am_V} : KtH r i pc tgt ls st Q (Sum.inl (some v)) h ↔ Rn r i pc ls (v :: st) h Q := Iff.rfl
theorem KtH_0 {tgt : Nat} : KtH r i pc tgt ls st Q (Sum.inl none) h ↔ Rn r i pc ls st h Q := Iff.rfl
theorem KtH_x {tgt : Nat} {q : Nat} : KtH r i pc tgt ls st Q (Sum.inr q) h ↔ (hK h q = am_wrong ∧ Rn r i tgt ls [vR (some q)] h Q) := Iff.rfl
theorem Rn.imp (hq : ∀ o h', Q o h' → Q' o h') (k : Rn r i pc ls st h Q) : Rn r i pc ls st h Q' := by
  obtain ⟨n, o, h', e, q⟩ := k
  exact ⟨n, o, h', e, hq _ _ q⟩
theorem Cl.imp {m : Nat} {args : List am_V} (hq : ∀ o h', Q o h' → Q' o h') (k : Cl r m args h Q) : Cl r m args h Q' := by
  obtain ⟨pm, e, k⟩ := k
  exact ⟨pm, e, k.imp hq⟩
theorem Cl_in {m : Nat} {args : List am_V} {ls : List (Option am_V)} (hp : am_prog m = some pm) (he : am_pad pm.1 (am_slots args) = ls) : Cl r m args h Q ↔ Rn r m 0 ls [] h Q := by
  subst he
  constructor
  · rintro ⟨pm', e, k⟩
    cases hp.symm.trans e
    exact k
  · intro k
    exact ⟨pm, hp, k⟩
theorem Rn_nx {pc' : Nat} {ls' : List (Option am_V)} {st' : List am_V} {h' : am_H} (hp : am_prog i = some pm) (hc : pm.2.2 pc = some ai) (he : am_exec ai (pc, (ls, st)) h = some (Sum.inl ((pc', (ls', st')), h'))) : Rn r i pc ls st h Q ↔ Rn r i pc' ls' st' h' Q := by
  constructor
  · rintro ⟨n, o, h2, e, q⟩
    cases n with
    | zero => simp [am_run] at e
    | succ n =>
      simp only [am_run, hp, hc, he] at e
      exact ⟨n, o, h2, e, q⟩
  · rintro ⟨n, o, h2, e, q⟩
    exact ⟨n + 1, o, h2, by simp only [am_run, hp, hc, he]; exact e, q⟩
theorem Rn_end {o : am_O} {h' : am_H} (hp : am_prog i = some pm) (hc : pm.2.2 pc = some ai) (he : am_exec ai (pc, (ls, st)) h = some (Sum.inr (Sum.inl (o, h')))) : Rn r i pc ls st h Q ↔ Q o h' := by
  constructor
  · rintro ⟨n, o2, h2, e, q⟩
    cases n with
    | zero => simp [am_run] at e
    | succ n =>
      simp only [am_run, hp, hc, he, Option.some.injEq, Prod.mk.injEq] at e
      rw [e.1, e.2]
      exact q
  · intro q
    exact ⟨1, o, h', by simp only [am_run, hp, hc, he], q⟩
theorem Rn_call {m r' pc2 : Nat} {args rest : List am_V} {pm' : am_M} (hp : am_prog i = some pm) (hc : pm.2.2 pc = some ai) (he : am_exec ai (pc, (ls, st)) h = some (Sum.inr (Sum.inr (m, (args, rest))))) (hm : am_prog m = some pm') (hd : am_deep (am_flag ai) r pm.2.1 pm'.2.1 = some r') (hh : am_hdl ai = none) (h2 : pc + ai.2.1 = pc2) : Rn r i pc ls st h Q ↔ Cl r' m args h (Kt r i pc2 ls rest Q) := by
  subst h2
  rw [Cl_in hm rfl]
  constructor
  · rintro ⟨n, o2, h2, e, q⟩
    cases n with
    | zero => simp [am_run] at e
    | succ n =>
      simp only [am_run, hp, hc, he, hm, hd, hh] at e
      cases hr : am_run am_prog n r' m (0, (am_pad pm'.1 (am_slots args), [])) h with
      | none => rw [hr] at e; cases e
      | some w =>
        rw [hr] at e
        obtain ⟨o, h3⟩ := w
        refine ⟨n, o, h3, hr, ?_⟩
        cases o with
        | inl v => exact ⟨n, o2, h2, e, q⟩
        | inr x =>
          simp only [Option.some.injEq, Prod.mk.injEq] at e
          show Q (Sum.inr x) h3
          rw [e.1, e.2]
          exact q
  · rintro ⟨n, o, h3, hr, k⟩
    cases o with
    | inl v =>
      obtain ⟨n2, o2, h2, e, q⟩ := k
      refine ⟨max n n2 + 1, o2, h2, ?_, q⟩
      simp only [am_run, hp, hc, he, hm, hd]
      rw [am_run_le am_prog (Nat.le_max_left n n2) hr]
      exact am_run_le am_prog (Nat.le_max_right n n2) e
    | inr x =>
      refine ⟨n + 1, Sum.inr x, h3, ?_, k⟩
      simp only [am_run, hp, hc, he, hm, hd, hh]
      rw [hr]
theorem Rn_callH {m r' tgt pc2 : Nat} {args rest : List am_V} {pm' : am_M} (hp : am_prog i = some pm) (hc : pm.2.2 pc = some ai) (he : am_exec ai (pc, (ls, st)) h = some (Sum.inr (Sum.inr (m, (args, rest))))) (hm : am_prog m = some pm') (hd : am_deep (am_flag ai) r pm.2.1 pm'.2.1 = some r') (hh : am_hdl ai = some tgt) (h2 : pc + ai.2.1 = pc2) : Rn r i pc ls st h Q ↔ Cl r' m args h (KtH r i pc2 tgt ls rest Q) := by
  subst h2
  rw [Cl_in hm rfl]
  constructor
  · rintro ⟨n, o2, h2, e, q⟩
    cases n with
    | zero => simp [am_run] at e
    | succ n =>
      simp only [am_run, hp, hc, he, hm, hd, hh] at e
      cases hr : am_run am_prog n r' m (0, (am_pad pm'.1 (am_slots args), [])) h with
      | none => rw [hr] at e; cases e
      | some w =>
        rw [hr] at e
        obtain ⟨o, h3⟩ := w
        refine ⟨n, o, h3, hr, ?_⟩
        cases o with
        | inl v => exact ⟨n, o2, h2, e, q⟩
        | inr x =>
          simp only at e
          cases hb : Nat.beq (hK h3 x) am_wrong with
          | false => rw [hb] at e; cases e
          | true =>
            rw [hb] at e
            exact ⟨Nat.eq_of_beq_eq_true hb, n, o2, h2, e, q⟩
  · rintro ⟨n, o, h3, hr, k⟩
    cases o with
    | inl v =>
      obtain ⟨n2, o2, h2, e, q⟩ := k
      refine ⟨max n n2 + 1, o2, h2, ?_, q⟩
      simp only [am_run, hp, hc, he, hm, hd]
      rw [am_run_le am_prog (Nat.le_max_left n n2) hr]
      exact am_run_le am_prog (Nat.le_max_right n n2) e
    | inr x =>
      obtain ⟨hw, n2, o2, h2, e, q⟩ := k
      refine ⟨max n n2 + 1, o2, h2, ?_, q⟩
      simp only [am_run, hp, hc, he, hm, hd, hh]
      rw [am_run_le am_prog (Nat.le_max_left n n2) hr]
      simp only
      have hb : Nat.beq (hK h3 x) am_wrong = true := by rw [hw]; rfl
      rw [hb]
      exact am_run_le am_prog (Nat.le_max_right n n2) e
/-- a call whose end is known is rewritten to what follows -/
theorem Cl_det {m : Nat} {args : List am_V} {o : am_O} {h' : am_H} (k : Cl r m args h (fun o2 h2 => o2 = o ∧ h2 = h')) : Cl r m args h Q ↔ Q o h' := by
  obtain ⟨pm, hp, n, o1, h1, e1, rfl, rfl⟩ := k
  constructor
  · rintro ⟨pm', hp', n2, o2, h2, e2, q⟩
    cases hp.symm.trans hp'
    have := am_run_det am_prog e1 e2
    simp only [Prod.mk.injEq] at this
    rw [this.1, this.2]
    exact q
  · intro q
    exact ⟨pm, hp, n, _, _, e1, q⟩
end LG
section LX
variable {r i pc : Nat} {ls : List (Option am_V)} {st : List am_V} {h : am_H} {Q : am_O → am_H → Prop} {pm : am_M} {n : Nat} {t : List (Nat × Nat)} {o : List Nat}
theorem Rn_if {c : Prop} [Decidable c] {tgt pc2 : Nat} {st' : List am_V} {ai : am_I} (hp : am_prog i = some pm) (hc : pm.2.2 pc = some ai) (he : am_exec ai (pc, (ls, st)) h = am_if (pc, (ls, st)) h [tgt] c st') (h2 : pc + 3 = pc2) : Rn r i pc ls st h Q ↔ if c then Rn r i tgt ls st' h Q else Rn r i pc2 ls st' h Q := by
  subst h2
  by_cases q : c
  · rw [if_pos q]
    exact Rn_nx hp hc (by rw [he]; simp only [am_if, if_pos q]; rfl)
  · rw [if_neg q]
    exact Rn_nx hp hc (by rw [he]; simp only [am_if, if_neg q]; rfl)
end LX
theorem am_rng2 {a k : Nat} (h1 : a ≤ k) (h2 : k ≤ a + 1) : k = a ∨ k = a + 1 := by omega
theorem am_rng9 {a k : Nat} (h1 : a ≤ k) (h2 : k ≤ a + 8) : k = a ∨ k = a + 1 ∨ k = a + 2 ∨ k = a + 3 ∨ k = a + 4 ∨ k = a + 5 ∨ k = a + 6 ∨ k = a + 7 ∨ k = a + 8 := by omega
