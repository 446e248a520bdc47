/-! THE SIMULATION, part S: sites that a small check settles -/
def am_noL (LS : List Nat) (i : Nat) : Bool := match i with
  | 0 => true
  | j + 1 => !(LS.contains j)
theorem am_noL_ok {LS : List Nat} {i : Nat} (h : am_noL LS i = true) : ∀ j, j + 1 = i → j ∉ LS := by
  intro j hj hm
  subst hj
  have : LS.contains j = true := List.contains_iff_mem.mpr hm
  simp [am_noL] at h
  exact h hm
def am_off (pc : Nat) (off : Int) (o : List Nat) : Bool := o.all (fun x => decide ((pc : Int) + off = (x : Int)))
theorem am_off_ok {pc : Nat} {off : Int} {o : List Nat} (h : am_off pc off o = true) : ∀ x ∈ o, (pc : Int) + off = (x : Int) := fun x hx => of_decide_eq_true (List.all_eq_true.mp h x hx)
def am_chk0 (nL : Nat) (LS : List Nat) (rt : Option FieldType) (pc : Nat) (ai : am_I) : Bool := match ai with
  | (ins, (len, (o, _))) => match ins with
    | .istore i => decide (i < nL) && (o != [] || am_noL LS i)
    | .astore i => decide (i < nL) && (o != [] || am_noL LS i)
    | .istore_n i => decide ((i : Nat) < nL) && (o != [] || am_noL LS i)
    | .astore_n i => decide ((i : Nat) < nL) && (o != [] || am_noL LS i)
    | .lstore i => decide (i + 1 < nL) && LS.contains i && (o != [] || am_noL LS i)
    | .lstore_n i => decide ((i : Nat) + 1 < nL) && LS.contains (i : Nat) && (o != [] || am_noL LS i)
    | .iinc i _ => decide (i < nL) && am_noL LS i
    | .goto off => am_off pc off o
    | .ifCond _ off => am_off pc off o
    | .if_icmp _ off => am_off pc off o
    | .if_acmp _ off => am_off pc off o
    | .ifnull off => am_off pc off o
    | .ifnonnull off => am_off pc off o
    | .tableswitch _ _ _ _ => false
    | .lookupswitch _ _ => false
    | .getfield _ => false
    | .putfield _ => false
    | .new _ => false
    | .newarray _ => false
    | .anewarray _ => false
    | .ldc _ => false
    | .ldc_w _ => false
    | .ldc2_w _ => false
    | .getstatic _ => false
    | .checkcast _ => false
    | .instanceof _ => false
    | .arraylength => decide (len = 1)
    | .iaload => decide (len = 1)
    | .laload => decide (len = 1)
    | .baload => decide (len = 1)
    | .aaload => decide (len = 1)
    | .iastore => decide (len = 1)
    | .lastore => decide (len = 1)
    | .bastore => decide (len = 1)
    | .aastore => decide (len = 1)
    | .ireturn => decide (len = 1) && (match rt with | some ty => decide (o = [am_tc ty]) | none => false)
    | .lreturn => decide (len = 1) && (match rt with | some .long => true | _ => false)
    | .areturn => decide (len = 1) && (match rt with | some (.object _) => true | some (.array _) => true | _ => false)
    | .return_ => decide (len = 1) && (match rt with | none => true | _ => false)
    | .athrow => decide (len = 1) && decide (o = [])
    | _ => !am_isInv ins
def am_chk (nL : Nat) (LS : List Nat) (rt : Option FieldType) (pc : Nat) (ai : am_I) : Bool := (match am_len ai.1 with | some k => decide (ai.2.1 = k) | none => true) && am_chk0 nL LS rt pc ai
theorem am_chk_len {ai : am_I} (h : (match am_len ai.1 with | some k => decide (ai.2.1 = k) | none => true) = true) : ∀ k, am_len ai.1 = some k → ai.2.1 = k := by
  intro k hk
  rw [hk] at h
  exact of_decide_eq_true h
theorem am_or_ok {LS o : List Nat} {i : Nat} (h : (o != [] || am_noL LS i) = true) : o = [] → ∀ j, j + 1 = i → j ∉ LS := by
  intro ho
  subst ho
  exact am_noL_ok (by simpa using h)
set_option maxHeartbeats 4000000 in
theorem am_chk_ok {mt : Nat → Option am_T} {own : String} {ini : Bool} {nL : Nat} {LS : List Nat} {rt : Option FieldType} {pc : Nat} {ai : am_I} (h : am_chk nL LS rt pc ai = true) : am_ST mt own ini nL LS rt pc ai := by
  unfold am_chk at h
  obtain ⟨h1, h2⟩ := (Bool.and_eq_true _ _).mp h
  have hl := am_chk_len h1
  obtain ⟨ins, len, o, t⟩ := ai
  left
  cases ins <;> first
    | (cases h2; done)
    | exact ⟨rfl, trivial, hl, trivial⟩
    | exact ⟨rfl, am_off_ok h2, hl, trivial⟩
    | exact ⟨rfl, trivial, hl, of_decide_eq_true h2⟩
    | (simp only [am_chk0, Bool.and_eq_true, decide_eq_true_eq] at h2; exact ⟨rfl, ⟨h2.1, am_or_ok h2.2⟩, hl, trivial⟩)
    | (simp only [am_chk0, Bool.and_eq_true, decide_eq_true_eq] at h2; exact ⟨rfl, ⟨h2.1, am_noL_ok h2.2⟩, hl, trivial⟩)
    | (simp only [am_chk0, Bool.and_eq_true, decide_eq_true_eq] at h2; exact ⟨rfl, ⟨h2.1.1, List.contains_iff_mem.mp h2.1.2, am_or_ok h2.2⟩, hl, trivial⟩)
    | (simp only [am_chk0, Bool.and_eq_true, decide_eq_true_eq] at h2; exact ⟨rfl, trivial, hl, h2⟩)
    | (simp only [am_chk0, Bool.and_eq_true, decide_eq_true_eq] at h2
       obtain ⟨e1, e2⟩ := h2
       split at e2
       · first
           | exact ⟨rfl, trivial, hl, e1, _, rfl, of_decide_eq_true e2⟩
           | exact ⟨rfl, trivial, hl, e1, rfl⟩
           | exact ⟨rfl, trivial, hl, e1, _, rfl, Or.inl ⟨_, rfl⟩⟩
       · first
           | (cases e2; done)
           | exact ⟨rfl, trivial, hl, e1, _, rfl, Or.inr ⟨_, rfl⟩⟩
       all_goals (cases e2))
theorem am_hc0 {own : String} {pc : Nat} {ai : am_I} (h : am_isInv ai.1 = false ∨ am_hdl ai = none) : am_HC own [] pc ai := by
  refine ⟨fun a sg _ _ x hx => (by cases hx), fun _ x hx => (by cases hx), fun tg h1 h2 => ?_⟩
  rcases h with h | h
  · rw [h] at h1; cases h1
  · rw [h] at h2; cases h2
theorem am_at_all {V : Nat → am_I → Prop} : ∀ (l : List (Nat × am_I)), (∀ x ∈ l, V x.1 x.2) → ∀ pc ai, am_at l pc = some ai → V pc ai
  | [], _, pc, ai, h => by cases h
  | (k, a) :: l, hV, pc, ai, h => by
    unfold am_at at h
    cases hb : Nat.beq k pc with
    | true =>
      rw [hb] at h
      cases h
      have : k = pc := Nat.eq_of_beq_eq_true hb
      subst this
      exact hV (k, a) List.mem_cons_self
    | false =>
      rw [hb] at h
      exact am_at_all l (fun x hx => hV x (List.mem_cons_of_mem _ hx)) pc ai h
