/-! THE SIMULATION, part O: a method's entry; a call read off -/
def am_lp : Nat → List Nat → List Nat
  | _, [] => []
  | k, 1 :: l => k :: am_lp (k + 2) l
  | k, _ :: l => am_lp (k + 1) l
def am_w : List Nat → Nat
  | [] => 0
  | 1 :: l => am_w l + 2
  | _ :: l => am_w l + 1
/-- values of these types: 0 int, 1 long, 2 reference -/
def am_td : List Nat → List am_V → Prop
  | [], vs => vs = []
  | n :: l, vs => ∃ v ws, vs = v :: ws ∧ am_td l ws ∧ ((n = 0 ∧ ∃ x, v = vI x) ∨ (n = 1 ∧ ∃ x, v = vL x) ∨ (n = 2 ∧ ∃ x, v = vR x))
theorem am_td.nil : am_td [] [] := rfl
theorem am_td.i {l : List Nat} {vs : List am_V} (x : Int32) (h : am_td l vs) : am_td (0 :: l) (vI x :: vs) := ⟨_, _, rfl, h, Or.inl ⟨rfl, x, rfl⟩⟩
theorem am_td.j {l : List Nat} {vs : List am_V} (x : Int64) (h : am_td l vs) : am_td (1 :: l) (vL x :: vs) := ⟨_, _, rfl, h, Or.inr (Or.inl ⟨rfl, x, rfl⟩)⟩
theorem am_td.r {l : List Nat} {vs : List am_V} (x : Option Nat) (h : am_td l vs) : am_td (2 :: l) (vR x :: vs) := ⟨_, _, rfl, h, Or.inr (Or.inr ⟨rfl, x, rfl⟩)⟩
theorem am_td_ind {P : List Nat → List am_V → Prop} (h0 : P [] []) (hi : ∀ (l : List Nat) (vs : List am_V) (x : Int32), am_td l vs → P l vs → P (0 :: l) (vI x :: vs)) (hj : ∀ (l : List Nat) (vs : List am_V) (x : Int64), am_td l vs → P l vs → P (1 :: l) (vL x :: vs)) (hr : ∀ (l : List Nat) (vs : List am_V) (x : Option Nat), am_td l vs → P l vs → P (2 :: l) (vR x :: vs)) : ∀ (l : List Nat) (vs : List am_V), am_td l vs → P l vs
  | [], vs, h => by
    have h : vs = [] := h
    rw [h]; exact h0
  | n :: l, vs, h => by
    obtain ⟨v, ws, rfl, h, h9⟩ := h
    have ih := am_td_ind h0 hi hj hr l ws h
    rcases h9 with ⟨rfl, x, rfl⟩ | ⟨rfl, x, rfl⟩ | ⟨rfl, x, rfl⟩
    · exact hi l ws x h ih
    · exact hj l ws x h ih
    · exact hr l ws x h ih
theorem am_td_len {l : List Nat} {vs : List am_V} (h : am_td l vs) : vs.length = l.length := by
  refine am_td_ind (P := fun l vs => vs.length = l.length) ?_ ?_ ?_ ?_ l vs h
  · rfl
  · intro l vs x h ih
    simp [ih]
  · intro l vs x h ih
    simp [ih]
  · intro l vs x h ih
    simp [ih]
theorem am_td_w {l : List Nat} {vs : List am_V} (h : am_td l vs) : (am_slots vs).length = am_w l := by
  refine am_td_ind (P := fun l vs => (am_slots vs).length = am_w l) ?_ ?_ ?_ ?_ l vs h
  · rfl
  · intro l vs x h ih
    simp [am_slots, am_w, vI, ih]
  · intro l vs x h ih
    simp [am_slots, am_w, vL, ih]
  · intro l vs x h ih
    simp [am_slots, am_w, vR, ih]
theorem am_td_lp {l : List Nat} {vs : List am_V} (h : am_td l vs) : ∀ (i k : Nat) (y : Int64), (am_slots vs)[k]? = some (some (vL y)) → i + k ∈ am_lp i l := by
  refine am_td_ind (P := fun l vs => ∀ (i k : Nat) (y : Int64), (am_slots vs)[k]? = some (some (vL y)) → i + k ∈ am_lp i l) ?_ ?_ ?_ ?_ l vs h
  · intro i k y q; simp [am_slots] at q
  · intro l vs x h ih
    intro i k y q
    cases k with
    | zero => simp [am_slots, vI, vL] at q
    | succ k =>
      have := ih (i + 1) k y (by simpa [am_slots, vI] using q)
      show i + (k + 1) ∈ am_lp (i + 1) _
      rw [show i + (k + 1) = i + 1 + k by omega]
      exact this
  · intro l vs x h ih
    intro i k y q
    cases k with
    | zero => exact List.mem_cons_self
    | succ k =>
      cases k with
      | zero => simp [am_slots, vL] at q
      | succ k =>
        have := ih (i + 2) k y (by simpa [am_slots, vL] using q)
        refine List.mem_cons_of_mem _ ?_
        rw [show i + (k + 1 + 1) = i + 2 + k by omega]
        exact this
  · intro l vs x h ih
    intro i k y q
    cases k with
    | zero => simp [am_slots, vR, vL] at q
    | succ k =>
      have := ih (i + 1) k y (by simpa [am_slots, vR] using q)
      show i + (k + 1) ∈ am_lp (i + 1) _
      rw [show i + (k + 1) = i + 1 + k by omega]
      exact this
theorem am_sl_len {l : List Nat} {vs : List am_V} (h : am_td l vs) : (lg_sl (vs.map am_e)).length = am_w l := by
  refine am_td_ind (P := fun l vs => (lg_sl (vs.map am_e)).length = am_w l) ?_ ?_ ?_ ?_ l vs h
  · rfl
  · intro l vs x h ih
    have e : lg_sl ((vI x :: vs).map am_e) = Slot.val (.int x) :: lg_sl (List.map am_e vs) := rfl
    rw [e, List.length_cons, ih]; rfl
  · intro l vs x h ih
    have e : lg_sl ((vL x :: vs).map am_e) = Slot.val (.long x) :: .second :: lg_sl (List.map am_e vs) := rfl
    rw [e, List.length_cons, List.length_cons, ih]; rfl
  · intro l vs x h ih
    have e : lg_sl ((vR x :: vs).map am_e) = Slot.val (va_rf x) :: lg_sl (List.map am_e vs) := by cases x <;> rfl
    rw [e, List.length_cons, ih]; rfl
theorem am_args_at {l : List Nat} {vs : List am_V} (h : am_td l vs) : ∀ (i k : Nat) (v : am_V), (am_slots vs)[k]? = some (some v) → (i + k, am_e v) ∈ lv_args i (vs.map am_e) := by
  refine am_td_ind (P := fun l vs => ∀ (i k : Nat) (v : am_V), (am_slots vs)[k]? = some (some v) → (i + k, am_e v) ∈ lv_args i (vs.map am_e)) ?_ ?_ ?_ ?_ l vs h
  · intro i k v q; simp [am_slots] at q
  · intro l vs x h ih
    intro i k v q
    cases k with
    | zero => simp [am_slots, vI] at q; subst q; exact List.mem_cons_self
    | succ k =>
      have := ih (i + 1) k v (by simpa [am_slots, vI] using q)
      refine List.mem_cons_of_mem _ ?_
      rw [show i + (k + 1) = i + 1 + k by omega]
      exact this
  · intro l vs x h ih
    intro i k v q
    cases k with
    | zero => simp [am_slots, vL] at q; subst q; exact List.mem_cons_self
    | succ k =>
      cases k with
      | zero => simp [am_slots, vL] at q
      | succ k =>
        have := ih (i + 2) k v (by simpa [am_slots, vL] using q)
        refine List.mem_cons_of_mem _ ?_
        rw [show i + (k + 1 + 1) = i + 2 + k by omega]
        exact this
  · intro l vs x h ih
    intro i k v q
    cases k with
    | zero => simp [am_slots, vR] at q; subst q; exact List.mem_cons_self
    | succ k =>
      have := ih (i + 1) k v (by simpa [am_slots, vR] using q)
      refine List.mem_cons_of_mem _ ?_
      rw [show i + (k + 1) = i + 1 + k by omega]
      rw [if_neg (by cases x <;> (intro z; cases z))]
      exact this
theorem am_pad_at {n k : Nat} {l : List (Option am_V)} {v : am_V} (h : (am_pad n l)[k]? = some (some v)) : l[k]? = some (some v) := by
  unfold am_pad at h
  by_cases hk : k < l.length
  · rwa [List.getElem?_append_left hk] at h
  · rw [List.getElem?_append_right (by omega), List.getElem?_replicate] at h
    split at h <;> cases h
theorem sw_entry {l : List Nat} {vs : List am_V} {nL : Nat} (h : am_td l vs) (hw : am_w l ≤ nL) : am_l (am_pad nL (am_slots vs)) ((lg_sl (vs.map am_e) ++ List.replicate (nL - (lg_sl (vs.map am_e)).length) Slot.unset).toArray) nL := by
  obtain ⟨h1, h2, h3⟩ := lv_entry (vs.map am_e) (n := nL) (by rw [am_sl_len h]; exact hw)
  refine ⟨h1, h2, fun k v q => ?_⟩
  have := am_args_at h 0 k v (am_pad_at q)
  rw [Nat.zero_add] at this
  exact h3 _ this
theorem sw_entry_lg {l : List Nat} {vs : List am_V} {nL : Nat} {LS : List Nat} (h : am_td l vs) (hl : ∀ k ∈ am_lp 0 l, k ∈ LS) : am_lg LS (am_pad nL (am_slots vs)) := by
  intro k y q
  have := am_td_lp h 0 k y (am_pad_at q)
  rw [Nat.zero_add] at this
  exact hl _ this
theorem am_pop_td : ∀ (sg : List Nat) (acc st args rest : List am_V) (l : List Nat), am_pop sg acc st = some (args, rest) → am_td l acc → am_td (sg.reverse ++ l) args
  | [], acc, st, args, rest, l, h, ht => by
    simp only [am_pop, Option.some.injEq, Prod.mk.injEq] at h
    rw [← h.1]
    exact ht
  | n :: sg, acc, st, args, rest, l, h, ht => by
    unfold am_pop at h
    split at h
    · rename_i e1; cases e1
    · rename_i e1
      cases e1
      have := am_pop_td sg _ _ _ _ (0 :: l) h (am_td.i _ ht)
      simpa using this
    · rename_i e1
      cases e1
      have := am_pop_td sg _ _ _ _ (1 :: l) h (am_td.j _ ht)
      simpa using this
    · rename_i e1
      cases e1
      have := am_pop_td sg _ _ _ _ (2 :: l) h (am_td.r _ ht)
      simpa using this
    · cases h
theorem am_look_mem : ∀ (t : List (Nat × Nat)) (k m' : Nat), am_look k t = some m' → (k, m') ∈ t
  | [], k, m', q => by cases q
  | (x1, x2) :: t, k, m', q => by
    unfold am_look at q
    split at q
    · rename_i z
      cases q
      rw [z]
      exact List.mem_cons_self
    · exact List.mem_cons_of_mem _ (am_look_mem t k m' q)
theorem am_lk_mem {h : am_H} {q : Nat} {t : List (Nat × Nat)} {m' : Nat} (e : am_lk h q t = some m') : (hK h q, m') ∈ t ∨ q = hE h 33 ∧ (23, m') ∈ t := by
  unfold am_lk at e
  split at e
  · rename_i m hm
    cases e
    exact Or.inl (am_look_mem _ _ _ hm)
  · split at e
    · rename_i z
      exact Or.inr ⟨z, am_look_mem _ _ _ e⟩
    · cases e
theorem am_inv_call {vt : Bool} {o : List Nat} {t : List (Nat × Nat)} {fr : am_F} {h : am_H} {m' : Nat} {vs rest : List am_V} (he : am_inv vt fr h o t = some (Sum.inr (Sum.inr (m', (vs, rest))))) :
    ∃ a b sg, o = a :: b :: sg ∧ fr.2.2 = vs.reverse ++ rest ∧ am_cats rest ≤ 8 ∧ am_td sg.reverse vs ∧ ((vt = false ∧ (0, m') ∈ t) ∨ (vt = true ∧ ∃ q vs', vs = vR (some q) :: vs' ∧ ((hK h q, m') ∈ t ∨ q = hE h 33 ∧ (23, m') ∈ t))) := by
  unfold am_inv at he
  split at he
  · unfold am_nat am_nx at he
    repeat' split at he
    all_goals cases he
  · rename_i a b sg
    split at he
    · rename_i args rest' hp
      have hpe := am_pop_eq _ _ _ _ _ hp
      have hpt := am_pop_td _ _ _ _ _ [] hp am_td.nil
      simp only [List.reverse_nil, List.nil_append, List.append_nil] at hpe hpt
      split at he
      · split at he
        · rename_i hl
          unfold am_go at he
          split at he
          · rename_i hc
            cases he
            exact ⟨a, b, sg, rfl, hpe, hc, hpt, Or.inl ⟨rfl, am_look_mem _ _ _ hl⟩⟩
          · cases he
        · cases he
      · split at he
        · rename_i q vs'
          split at he
          · rename_i hl
            unfold am_go at he
            split at he
            · rename_i hc
              cases he
              exact ⟨a, b, sg, rfl, hpe, hc, hpt, Or.inr ⟨rfl, q, vs', rfl, am_lk_mem hl⟩⟩
            · cases he
          · cases he
        · cases he
    · cases he
  · cases he
theorem am_spc_call {o : List Nat} {t : List (Nat × Nat)} {fr : am_F} {h : am_H} {m' : Nat} {vs rest : List am_V} (he : am_spc fr h o t = some (Sum.inr (Sum.inr (m', (vs, rest))))) :
    ∃ a b sg, o = a :: b :: sg ∧ fr.2.2 = vs.reverse ++ rest ∧ am_cats rest ≤ 8 ∧ am_td sg.reverse vs ∧ (∃ q vs', vs = vR (some q) :: vs' ∧ 0 < hK h q ∧ hK h q < 40) ∧ (0, m') ∈ t := by
  unfold am_spc at he
  split at he
  · unfold am_nat am_nx at he
    repeat' split at he
    all_goals cases he
  · rename_i a b sg
    split at he
    · rename_i q as rest' hp
      have hpe := am_pop_eq _ _ _ _ _ hp
      have hpt := am_pop_td _ _ _ _ _ [] hp am_td.nil
      simp only [List.reverse_nil, List.nil_append, List.append_nil] at hpe hpt
      split at he
      · rename_i hk
        split at he
        · rename_i hl
          unfold am_go at he
          split at he
          · rename_i hc
            cases he
            exact ⟨a, b, sg, rfl, hpe, hc, hpt, ⟨q, as, rfl, hk⟩, am_look_mem _ _ _ hl⟩
          · cases he
        · cases he
      · cases he
    · cases he
  · cases he
theorem am_exec_call {ins : Instr} {len : Nat} {o : List Nat} {t : List (Nat × Nat)} {fr : am_F} {h : am_H} {x : Nat × (List am_V × List am_V)} (he : am_exec (ins, (len, (o, t))) fr h = some (Sum.inr (Sum.inr x))) :
    ((∃ idx, ins = .invokestatic idx) ∧ am_inv false fr h o t = some (Sum.inr (Sum.inr x))) ∨ ((∃ idx, ins = .invokespecial idx) ∧ am_spc fr h o t = some (Sum.inr (Sum.inr x))) ∨ (((∃ idx, ins = .invokevirtual idx) ∨ ∃ idx n, ins = .invokeinterface idx n) ∧ am_inv true fr h o t = some (Sum.inr (Sum.inr x))) := by
  cases ins
  case invokestatic i => exact Or.inl ⟨⟨i, rfl⟩, he⟩
  case invokespecial i => exact Or.inr (Or.inl ⟨⟨i, rfl⟩, he⟩)
  case invokevirtual i => exact Or.inr (Or.inr ⟨Or.inl ⟨i, rfl⟩, he⟩)
  case invokeinterface i n => exact Or.inr (Or.inr ⟨Or.inr ⟨i, n, rfl⟩, he⟩)
  case ifCond cd off =>
    cases cd <;> simp only [am_exec, am_if1, am_if, am_jp, am_nx] at he <;> (repeat' split at he) <;> cases he
  case if_icmp cd off =>
    cases cd <;> simp only [am_exec, am_if2, am_if, am_jp, am_nx] at he <;> (repeat' split at he) <;> cases he
  case if_acmp cd off =>
    cases cd <;> simp only [am_exec, am_if, am_jp, am_nx] at he <;> (repeat' split at he) <;> cases he
  all_goals simp only [am_exec] at he
  all_goals first
    | (cases he; done)
    | (try simp only [am_nx, am_jp, am_sv, am_iload, am_lload, am_aload, am_istore, am_astore, am_lstore, am_ib, am_lb, am_iu, am_ldc, am_getf, am_putf, am_ald, am_iast, am_last, am_aast, am_newa, am_if] at he
       (repeat' split at he) <;> cases he)
