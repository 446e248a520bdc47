/-! THE START, facts: what lies where at the law's entry -/
section ST
variable {s : State} {args : Array Value}
theorem st_arr {tm : Term} {ty : FieldType} {N : Nat} (hN : N < 2 ^ 31) (harr : (Cond.arrayOf tm ty).before args s = true) (hlen : (Cond.eq (.length tm) (.int (Int32.ofNat N))).before args s = true) :
    ∃ (t : Nat) (cell : Cell), tm.eval args s none [] s = some (.ref t) ∧ s.arrayAt? t = some cell ∧ s.heap[t]? = some cell ∧ s.isArrayOf cell ty ∧ cell.vm ≠ .unknown ∧ cell.slots.size = N := by
  have hl := va_eqt hlen
  obtain ⟨t, cell, ht, hat, hv⟩ := Term.length_spec hl
  obtain ⟨hcell, hkn, -, -⟩ := State.arrayAt?_spec hat
  obtain ⟨hof, -⟩ := Cond.arrayOf_spec harr ht hcell
  refine ⟨t, cell, ht, hat, hcell, hof, hkn, ?_⟩
  have hsz : cell.slots.size < 2 ^ 31 := by
    simp only [Term.eval, ht, hat, Option.bind_eq_bind, Option.bind_some] at hl
    by_cases hlt : cell.slots.size < 2147483648
    · exact hlt
    · simp [hlt] at hl
  have e : Int32.ofNat N = Int32.ofNat cell.slots.size := Value.int.inj hv
  have h1 : (Int32.ofNat cell.slots.size).toNatClampNeg = cell.slots.size := Int32.toNatClampNeg_ofNat_of_lt hsz
  have h2 : (Int32.ofNat N).toNatClampNeg = N := Int32.toNatClampNeg_ofNat_of_lt hN
  rw [← e, h2] at h1
  exact h1.symm
theorem st_el {tm : Term} {t j : Nat} {cell : Cell} {v : Value} (ht : tm.eval args s none [] s = some (.ref t)) (hat : s.arrayAt? t = some cell) (hj : j < 2 ^ 31) (h : (Term.elem tm (.int (Int32.ofNat j))).eval args s none [] s = some v) : cell.slots[j]? = some v := by
  obtain ⟨a, i, cell2, h1, h2, h3, h4, h5⟩ := Term.elem_spec h
  cases ht.symm.trans h1
  cases hat.symm.trans h3
  have e : (Term.int (Int32.ofNat j)).eval args s none [] s = some (.int (Int32.ofNat j)) := rfl
  cases h2.symm.trans e
  rw [Int32.toNatClampNeg_ofNat_of_lt hj] at h5
  exact h5
theorem st_f {t : Term} {a i : Nat} {o n d : String} {v : Value} (ht : t.eval args s none [] s = some (.ref a)) (hv : (Term.field t o n d).eval args s none [] s = some v) (hs : SlotIs s o n d i) : ∃ cell : Cell, s.heap[a]? = some cell ∧ cell.vm ≠ .unknown ∧ cell.vm.isStatics = false ∧ cell.slots[i]? = some v := by
  obtain ⟨cf, kf, fi, fd, hi, rfl⟩ := hs
  obtain ⟨-, cell, g2, g3, g4, -, g6⟩ := Term.field_spec hi ht hv
  exact ⟨cell, g2, g3, g4, g6⟩
/-- a String constant at a, its bytes at t -/
def stS (s : State) (cC : ClassId) (iS : Nat → Nat) (T : List Int32) (x z : Int32) (a t : Nat) : Prop :=
  (∃ cell : Cell, s.heap[a]? = some cell ∧ cell.cls = cC ∧ cell.vm ≠ .unknown ∧ cell.vm.isStatics = false ∧ cell.slots[iS 0]? = some (.ref t) ∧ cell.slots[iS 1]? = some (.int 0) ∧ cell.slots[iS 2]? = some (.int x) ∧ cell.slots[iS 3]? = some (.int z)) ∧
  ∃ cell : Cell, s.heap[t]? = some cell ∧ s.isArrayOf cell .byte ∧ cell.vm ≠ .unknown ∧ cell.slots.size = T.length ∧ (∀ j, j < T.length → cell.slots[j]? = some (.int (T.getD j 0))) ∧ s.vm.findClass "[B" = some cell.cls
theorem st_str {own : String} {idx : Nat} {T : List Int32} {x z : Int32} (hT : T.length < 1000) (h : ∀ w ∈ strW own idx T x z, w.before args s = true) (hv : (Cond.exactly (.field (.string own idx) "java/lang/String" "value" "[B") "[B").before args s = true) {cC : ClassId} {iS : Nat → Nat} (K : u_Kn s RJ13 TJ13 4 cC iS) :
    ∃ a t : Nat, (Term.string own idx).eval args s none [] s = some (.ref a) ∧ stS s cC iS T x z a t := by
  have w1 := h _ (List.mem_append_left _ (List.mem_append_left _ List.mem_cons_self))
  have w2 := h _ (List.mem_append_left _ (List.mem_append_left _ (List.mem_cons_of_mem _ List.mem_cons_self)))
  have w3 := h _ (List.mem_append_left _ (List.mem_append_left _ (List.mem_cons_of_mem _ (List.mem_cons_of_mem _ List.mem_cons_self))))
  have w4 := h _ (List.mem_append_left _ (List.mem_append_left _ (List.mem_cons_of_mem _ (List.mem_cons_of_mem _ (List.mem_cons_of_mem _ List.mem_cons_self)))))
  have w5 : ∀ j, j < T.length → (Cond.eq (.elem (.field (.string own idx) "java/lang/String" "value" "[B") (.int (Int32.ofNat j))) (.int (T.getD j 0))).before args s = true := fun j hj => h _ (List.mem_append_left _ (List.mem_append_right _ (List.mem_map.mpr ⟨j, List.mem_range.mpr hj, rfl⟩)))
  have w6 := h _ (List.mem_append_right _ List.mem_cons_self)
  have w7 := h _ (List.mem_append_right _ (List.mem_cons_of_mem _ List.mem_cons_self))
  obtain ⟨a, c, cA, kA, q1, q2, q3, q4, q5, q6, -⟩ := Cond.exactly_spec (args := args) (first := s) (o := none) (s := s) (idx := []) (t := .string own idx) (cls := "java/lang/String") w1
  obtain ⟨t, cell, t1, t2, t3, t4, t5, t6⟩ := st_arr (N := T.length) (by omega) w3 w4
  have S := K.1
  have f0 := st_f q1 t1 (S 0 (by decide))
  have f1 := st_f q1 (va_eqt w2) (S 1 (by decide))
  have f2 := st_f q1 (va_eqt w6) (S 2 (by decide))
  have f3 := st_f q1 (va_eqt w7) (S 3 (by decide))
  obtain ⟨c0, g1, g2, g3, g4⟩ := f0
  obtain ⟨c1, g5, -, -, g6⟩ := f1
  obtain ⟨c2, g7, -, -, g8⟩ := f2
  obtain ⟨c3, g9, -, -, g10⟩ := f3
  cases q3.symm.trans g1
  cases q3.symm.trans g5
  cases q3.symm.trans g7
  cases q3.symm.trans g9
  refine ⟨a, t, q1, ⟨cA, q3, ?_, g2, g3, g4, g6, g8, g10⟩, cell, t3, t4, t5, t6, fun j hj => st_el t1 t2 (by omega) (va_eqt (w5 j hj)), ?_⟩
  · rw [q6]
    exact Option.some.inj (q2.symm.trans K.2.1)
  · obtain ⟨a', c', cB, kB, p1, p2, p3, -, -, p6, -⟩ := Cond.exactly_spec (args := args) (first := s) (o := none) (s := s) (idx := []) (t := .field (.string own idx) "java/lang/String" "value" "[B") (cls := "[B") hv
    cases t1.symm.trans p1
    cases t3.symm.trans p3
    rw [p6]
    exact p2
/-- the classes -/
theorem st_D (hts : ∀ w ∈ lw_tbl, w.before args s = true) : ∃ D : va_G, ∀ (c : Nat) (q : vw_C), am_cls[c]? = some q → u_Kn s q.1 q.2.1 q.2.2 (D.1 c) (D.2 c) := by
  have h : ∀ c : Nat, ∃ x : ClassId × (Nat → Nat), ∀ q, am_cls[c]? = some q → u_Kn s q.1 q.2.1 q.2.2 x.1 x.2 := by
    intro c
    cases hq : am_cls[c]? with
    | none => exact ⟨(0, fun _ => 0), fun q h => by cases h⟩
    | some q =>
      have hl : c < stN.length := by
        have h1 := (List.getElem?_eq_some_iff.mp hq).1
        have h2 : stN.length = am_cls.length := by decide +kernel
        omega
      have hz : (am_cls.zip stN)[c]? = some (q, stN[c]) := List.getElem?_zip_eq_some.mpr ⟨hq, List.getElem?_eq_getElem hl⟩
      have hi := hts _ (in_inst _ (List.mem_map.mpr ⟨(q, stN[c]), List.mem_of_getElem? hz, rfl⟩))
      obtain ⟨cC, iS, K⟩ := u_known (ws := lw_all) (fun w hw => hts w (lw_all_tbl hw)) (am_cls_in c q hq) hi
      exact ⟨(cC, iS), fun q' e => by cases e; exact K⟩
  obtain ⟨f, hf⟩ := Classical.axiomOfChoice h
  exact ⟨(fun c => (f c).1, fun c => (f c).2), hf⟩
theorem st_ac {ty : FieldType} (h : (Cond.arrayClass ty).before args s = true) : ∃ c : ClassId, ArrOfT s c ty ∧ s.vm.findClass ("[" ++ ty.toString) = some c := by
  obtain ⟨c, k, comp, h1, h2, h3⟩ := Cond.arrayClass_spec h
  exact ⟨c, fun n z => ⟨fun _ e => (by cases e), k, h2, comp, h3⟩, h1⟩
theorem st_ao {C : String} (h : (Cond.arrayOver (.object C)).before args s = true) : ∃ c : ClassId, ArrOfT s c (.object C) ∧ va_RA s c (.object C) := by
  obtain ⟨comp, c, k, h1, -, h2, h3, h4⟩ := Cond.arrayOver_spec h
  exact ⟨c, fun n z => ⟨fun _ e => (by cases e), k, h2, comp, h3⟩, k, comp, h2, h3, h1, h4⟩
theorem st_A (hts : ∀ w ∈ lw_tbl, w.before args s = true) : ∃ dA : Nat → ClassId, ∀ (k : Nat) (q : ClassId × FieldType), (am_tys dA)[k]? = some q → ArrOfT s q.1 q.2 ∧ va_RA s q.1 q.2 := by
  have hi := fun w hw => hts w (in_arr w hw)
  obtain ⟨c1, a1, b1⟩ := st_ac (hi _ List.mem_cons_self)
  obtain ⟨c2, a2, b2⟩ := st_ac (hi _ (List.mem_cons_of_mem _ List.mem_cons_self))
  obtain ⟨c3, a3, b3⟩ := st_ac (hi _ (List.mem_cons_of_mem _ (List.mem_cons_of_mem _ List.mem_cons_self)))
  obtain ⟨c4, a4, b4⟩ := st_ac (hi _ (List.mem_cons_of_mem _ (List.mem_cons_of_mem _ (List.mem_cons_of_mem _ List.mem_cons_self))))
  obtain ⟨c5, a5, b5⟩ := st_ao (hi _ (List.mem_cons_of_mem _ (List.mem_cons_of_mem _ (List.mem_cons_of_mem _ (List.mem_cons_of_mem _ List.mem_cons_self)))))
  obtain ⟨c6, a6, b6⟩ := st_ao (hi _ (List.mem_cons_of_mem _ (List.mem_cons_of_mem _ (List.mem_cons_of_mem _ (List.mem_cons_of_mem _ (List.mem_cons_of_mem _ List.mem_cons_self))))))
  refine ⟨fun k => if k = 40 then c1 else if k = 42 then c2 else if k = 43 then c3 else if k = 44 then c4 else if k = 46 then c5 else c6, fun k q hq => ?_⟩
  match k, hq with
  | 0, hq => cases hq; exact ⟨a1, b1⟩
  | 1, hq => cases hq; exact ⟨a2, b2⟩
  | 2, hq => cases hq; exact ⟨a3, b3⟩
  | 3, hq => cases hq; exact ⟨a4, b4⟩
  | 4, hq => cases hq; exact ⟨a5, b5⟩
  | 5, hq => cases hq; exact ⟨a6, b6⟩
  | k + 6, hq => cases hq
end ST
