/-! THE SIMULATION, part L: an instruction neither moves the constants nor gives cells back; what an instruction's site asks; a step -/
theorem am_le_self (h : am_H) : hE h = hE h ∧ hN h ≤ hN h ∧ hS h ≤ hS h := ⟨rfl, Nat.le_refl _, Nat.le_refl _⟩
def am_gr (h h' : am_H) : Prop := hE h' = hE h ∧ hN h ≤ hN h' ∧ hS h ≤ hS h'
theorem am_gr_rf (h : am_H) : am_gr h h := ⟨rfl, Nat.le_refl _, Nat.le_refl _⟩
theorem am_gr_new (h : am_H) (c n : Nat) : am_gr h (newC h c n) := ⟨rfl, by rw [hN_newC]; omega, by rw [hS_newC]; omega⟩
theorem am_gr.tr {a b c : am_H} (h1 : am_gr a b) (h2 : am_gr b c) : am_gr a c := ⟨h2.1.trans h1.1, Nat.le_trans h1.2.1 h2.2.1, Nat.le_trans h1.2.2 h2.2.2⟩
theorem am_nx_gr {fr fr' : am_F} {h h1 h' : am_H} {len : Nat} {st : List am_V} (g : am_gr h h1) (he : am_nx fr h1 len st = some (Sum.inl (fr', h'))) : am_gr h h' := by
  obtain ⟨-, rfl⟩ := am_nx_some he
  exact g
theorem am_jp_gr {fr fr' : am_F} {h h' : am_H} {pc : Nat} {st : List am_V} (he : am_jp fr h pc st = some (Sum.inl (fr', h'))) : am_gr h h' := by
  obtain ⟨-, rfl⟩ := am_jp_some he
  exact am_gr_rf _
theorem am_sv_gr {fr fr' : am_F} {h h' : am_H} {len : Nat} {ls : List (Option am_V)} {st : List am_V} (he : am_sv fr h len ls st = some (Sum.inl (fr', h'))) : am_gr h h' := by
  obtain ⟨-, rfl⟩ := am_sv_some he
  exact am_gr_rf _
theorem am_if_gr {fr fr' : am_F} {h h' : am_H} {o : List Nat} {C : Prop} [Decidable C] {st : List am_V} (he : am_if fr h o C st = some (Sum.inl (fr', h'))) : am_gr h h' := by
  unfold am_if at he
  split at he
  · split at he
    · exact am_jp_gr he
    · exact am_nx_gr (am_gr_rf _) he
  · cases he
theorem am_nat_gr {n : Nat} {t : List (Nat × Nat)} {fr fr' : am_F} {h h' : am_H} (he : am_nat n fr h t = some (Sum.inl (fr', h'))) : am_gr h h' := by
  unfold am_nat at he
  repeat' split at he
  all_goals first
    | (cases he; done)
    | exact am_nx_gr (am_gr_rf _) he
    | (obtain ⟨-, rfl⟩ := am_nx_some he; exact ⟨rfl, Nat.le_refl _, Nat.le_refl _⟩)
    | (obtain ⟨-, rfl⟩ := am_nx_some he; exact ⟨rfl, by rw [hN_cpyI, hN_newC]; omega, by rw [hS_cpyI, hS_newC]; omega⟩)
theorem am_inv_gr {vt : Bool} {o : List Nat} {t : List (Nat × Nat)} {fr fr' : am_F} {h h' : am_H} (he : am_inv vt fr h o t = some (Sum.inl (fr', h'))) : am_gr h h' := by
  unfold am_inv at he
  split at he
  · exact am_nat_gr he
  · repeat' split at he
    all_goals first
      | (cases he; done)
      | (unfold am_go at he; split at he <;> cases he; done)
  · cases he
theorem am_spc_gr {o : List Nat} {t : List (Nat × Nat)} {fr fr' : am_F} {h h' : am_H} (he : am_spc fr h o t = some (Sum.inl (fr', h'))) : am_gr h h' := by
  unfold am_spc at he
  split at he
  · exact am_nat_gr he
  · repeat' split at he
    all_goals first
      | (cases he; done)
      | (unfold am_go at he; split at he <;> cases he; done)
  · cases he
set_option maxHeartbeats 4000000 in
theorem am_exec_gr {ai : am_I} {fr fr' : am_F} {h h' : am_H} (he : am_exec ai fr h = some (Sum.inl (fr', h'))) : am_gr h h' := by
  obtain ⟨ins, len, o, t⟩ := ai
  have hif1 : ∀ (C : Int32 → Prop) [DecidablePred C], am_if1 fr h o C = some (Sum.inl (fr', h')) → am_gr h h' := by
    intro C _ he
    unfold am_if1 at he
    split at he <;> first | (cases he; done) | exact am_if_gr he
  have hif2 : ∀ (C : Int32 → Int32 → Prop) [∀ x y, Decidable (C x y)], am_if2 fr h o C = some (Sum.inl (fr', h')) → am_gr h h' := by
    intro C _ he
    unfold am_if2 at he
    split at he <;> first | (cases he; done) | exact am_if_gr he
  cases ins
  case ifCond cd off => cases cd <;> exact hif1 _ he
  case if_icmp cd off => cases cd <;> exact hif2 _ he
  case if_acmp cd off =>
    cases cd <;> simp only [am_exec] at he <;> split at he <;> first | (cases he; done) | exact am_if_gr he
  all_goals simp only [am_exec] at he
  all_goals first
    | (cases he; done)
    | exact am_nx_gr (am_gr_rf _) he
    | exact am_inv_gr he
    | exact am_spc_gr he
    | (unfold am_iload at he; split at he <;> first | (cases he; done) | exact am_nx_gr (am_gr_rf _) he)
    | (unfold am_lload at he; split at he <;> first | (cases he; done) | exact am_nx_gr (am_gr_rf _) he)
    | (unfold am_aload at he; split at he <;> first | (cases he; done) | exact am_nx_gr (am_gr_rf _) he)
    | (unfold am_istore at he; split at he <;> first | (cases he; done) | exact am_sv_gr he)
    | (unfold am_astore at he; split at he <;> first | (cases he; done) | exact am_sv_gr he)
    | (unfold am_lstore at he; split at he <;> first | (cases he; done) | exact am_sv_gr he)
    | (unfold am_ib at he; split at he <;> first | (cases he; done) | exact am_nx_gr (am_gr_rf _) he)
    | (unfold am_lb at he; split at he <;> first | (cases he; done) | exact am_nx_gr (am_gr_rf _) he)
    | (unfold am_iu at he; split at he <;> first | (cases he; done) | exact am_nx_gr (am_gr_rf _) he)
    | (unfold am_ldc at he; split at he <;> first | (cases he; done) | exact am_nx_gr (am_gr_rf _) he)
    | (unfold am_getf at he; repeat' split at he
       all_goals first | (cases he; done) | exact am_nx_gr (am_gr_rf _) he)
    | (unfold am_putf at he; repeat' split at he
       all_goals first | (cases he; done) | (obtain ⟨-, rfl⟩ := am_nx_some he; exact ⟨rfl, Nat.le_refl _, Nat.le_refl _⟩))
    | (unfold am_ald at he; repeat' split at he
       all_goals first | (cases he; done) | exact am_nx_gr (am_gr_rf _) he)
    | (unfold am_iast at he; repeat' split at he
       all_goals first | (cases he; done) | (obtain ⟨-, rfl⟩ := am_nx_some he; exact ⟨rfl, Nat.le_refl _, Nat.le_refl _⟩))
    | (unfold am_last at he; repeat' split at he
       all_goals first | (cases he; done) | (obtain ⟨-, rfl⟩ := am_nx_some he; exact ⟨rfl, Nat.le_refl _, Nat.le_refl _⟩))
    | (unfold am_aast at he; repeat' split at he
       all_goals first | (cases he; done) | (obtain ⟨-, rfl⟩ := am_nx_some he; exact ⟨rfl, Nat.le_refl _, Nat.le_refl _⟩))
    | (unfold am_newa at he; repeat' split at he
       all_goals first | (cases he; done) | (obtain ⟨-, rfl⟩ := am_nx_some he; exact am_gr_new _ _ _))
    | (repeat' split at he
       all_goals first
         | (cases he; done)
         | exact am_nx_gr (am_gr_rf _) he
         | exact am_sv_gr he
         | exact am_jp_gr he
         | exact am_if_gr he
         | (obtain ⟨-, rfl⟩ := am_nx_some he; exact am_gr_new _ _ _)
         | (unfold am_iast at he; repeat' split at he
            all_goals first | (cases he; done) | (obtain ⟨-, rfl⟩ := am_nx_some he; exact ⟨rfl, Nat.le_refl _, Nat.le_refl _⟩)))
theorem am_run_gr : ∀ (n r i : Nat) (fr : am_F) (h : am_H) (o : am_O) (h' : am_H), am_run am_prog n r i fr h = some (o, h') → (∀ ai fr h o h', am_exec ai fr h = some (Sum.inr (Sum.inl (o, h'))) → h' = h) → am_gr h h'
  | 0, _, _, _, _, _, _, e, _ => by simp [am_run] at e
  | n + 1, r, i, fr, h, o, h', e, he => by
    rw [am_run] at e
    split at e
    · cases e
    · split at e
      · cases e
      · rename_i ai hai
        split at e
        · cases e
        · rename_i fr1 h1 hx
          exact (am_exec_gr hx).tr (am_run_gr n _ _ _ _ _ _ e he)
        · rename_i o1 hx
          obtain ⟨o1, h1⟩ := o1
          simp only [Option.some.injEq, Prod.mk.injEq] at e
          rw [← e.2, he _ _ _ _ _ hx]
          exact am_gr_rf _
        · split at e
          · cases e
          · split at e
            · cases e
            · split at e
              · cases e
              · rename_i hr
                exact (am_run_gr n _ _ _ _ _ _ hr he).tr (am_run_gr n _ _ _ _ _ _ e he)
              · rename_i hr
                split at e
                · simp only [Option.some.injEq, Prod.mk.injEq] at e
                  rw [← e.2]
                  exact am_run_gr n _ _ _ _ _ _ hr he
                · split at e
                  · exact (am_run_gr n _ _ _ _ _ _ hr he).tr (am_run_gr n _ _ _ _ _ _ e he)
                  · cases e
