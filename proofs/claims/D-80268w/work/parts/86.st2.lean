/-! THE START: what a body is handed -/
section SU
variable {s : State} {args : Array Value}
theorem st_row (k : Nat) (q : String × (Nat × (Nat × String))) (h : am_strs[k]? = some q) : k < 27 ∧ q.2.2.1 = k ∧ (stT k).length < 1000 := by
  have hl : k < 27 := by
    have h1 := (List.getElem?_eq_some_iff.mp h).1
    have h2 : am_strs.length = 27 := by decide +kernel
    omega
  have a : ∀ i : Fin 27, (match am_strs[i.val]? with | some q => q.2.2.1 == i.val && decide ((stT i.val).length < 1000) | none => true) = true := by decide +kernel
  have b := a ⟨k, hl⟩
  dsimp only at b
  rw [h] at b
  simp only [Bool.and_eq_true, beq_iff_eq, decide_eq_true_eq] at b
  exact ⟨hl, b.1, b.2⟩
theorem st_rowx (k : Nat) (h : k < 27) : ∃ q, am_strs[k]? = some q := by
  have h2 : am_strs.length = 27 := by decide +kernel
  exact ⟨_, List.getElem?_eq_getElem (by omega)⟩
theorem st_strs (hts : ∀ w ∈ lw_tbl, w.before args s = true) (hn : ∀ w ∈ nar, w.before args s = true) {cC : ClassId} {iS : Nat → Nat} (K : u_Kn s RJ13 TJ13 4 cC iS) :
    ∃ f : Nat → Nat × Nat, ∀ k q, am_strs[k]? = some q → vk_R q.1 q.2.1 q.2.2.2 (f k).1 s ∧ stS s cC iS (stT k) (stH k) (stZ k) (f k).1 (f k).2 := by
  have h : ∀ k : Nat, ∃ x : Nat × Nat, ∀ q, am_strs[k]? = some q → vk_R q.1 q.2.1 q.2.2.2 x.1 s ∧ stS s cC iS (stT k) (stH k) (stZ k) x.1 x.2 := by
    intro k
    cases hq : am_strs[k]? with
    | none => exact ⟨(0, 0), fun q h => by cases h⟩
    | some q =>
      obtain ⟨r1, r2, r3⟩ := st_row k q hq
      have hm := List.mem_of_getElem? hq
      obtain ⟨a, t, e1, e2⟩ := st_str (args := args) (own := q.1) (idx := q.2.1) (T := stT k) (x := stH k) (z := stZ k) r3 (fun w hw => hn w (in_strs w (List.mem_flatMap.mpr ⟨q, hm, by rw [r2]; exact hw⟩))) (hn _ (in_vals _ (List.mem_map.mpr ⟨q, hm, rfl⟩))) K
      exact ⟨(a, t), fun q' e => by cases e; exact ⟨vk_R.of (A := args) (hts _ (ref_strs _ (List.mem_map.mpr ⟨q, hm, rfl⟩))) e1, e2⟩⟩
  exact Classical.axiomOfChoice h
/-- what lies where -/
def STs (s : State) (D : va_G) (E By In : Nat → Nat) : Prop :=
  (∀ k, k < 27 → stS s (D.1 11) (D.2 11) (stT k) (stH k) (stZ k) (E k) (By k)) ∧
  (∀ k, k = 30 ∨ k = 31 → ∃ cell : Cell, s.heap[E k]? = some cell ∧ s.isArrayOf cell (.object "java/lang/Object") ∧ cell.vm ≠ .unknown ∧ cell.slots.size = 0 ∧ s.vm.findClass "[Ljava/lang/Object;" = some cell.cls) ∧
  (∃ cell : Cell, s.heap[E 32]? = some cell ∧ s.isArrayOf cell (.object "java/lang/Integer") ∧ cell.vm ≠ .unknown ∧ cell.slots.size = 256 ∧ ∀ j, j < 256 → cell.slots[j]? = some (.ref (In j))) ∧
  (∀ j, j < 256 → ∃ cell : Cell, s.heap[In j]? = some cell ∧ cell.cls = D.1 9 ∧ cell.vm ≠ .unknown ∧ cell.vm.isStatics = false ∧ cell.slots[D.2 9 0]? = some (.int (vb_c j)))
theorem st_emp {tm : Term} (h1 : (Cond.arrayOf tm (.object "java/lang/Object")).before args s = true) (h2 : (Cond.exactly tm "[Ljava/lang/Object;").before args s = true) (h3 : (Cond.eq (.length tm) (.int 0)).before args s = true) :
    ∃ a : Nat, tm.eval args s none [] s = some (.ref a) ∧ ∃ cell : Cell, s.heap[a]? = some cell ∧ s.isArrayOf cell (.object "java/lang/Object") ∧ cell.vm ≠ .unknown ∧ cell.slots.size = 0 ∧ s.vm.findClass "[Ljava/lang/Object;" = some cell.cls := by
  obtain ⟨t, cell, t1, -, t3, t4, t5, t6⟩ := st_arr (N := 0) (by decide) h1 h3
  obtain ⟨a', c', cB, kB, p1, p2, p3, -, -, p6, -⟩ := Cond.exactly_spec (args := args) (first := s) (o := none) (s := s) (idx := []) (t := tm) (cls := "[Ljava/lang/Object;") h2
  cases t1.symm.trans p1
  cases t3.symm.trans p3
  exact ⟨t, t1, cell, t3, t4, t5, t6, by rw [p6]; exact p2⟩
theorem st_E (hts : ∀ w ∈ lw_tbl, w.before args s = true) (hn : ∀ w ∈ nar, w.before args s = true) {D : va_G} (hD : ∀ (c : Nat) (q : vw_C), am_cls[c]? = some q → u_Kn s q.1 q.2.1 q.2.2 (D.1 c) (D.2 c)) :
    ∃ E By In : Nat → Nat, SEf E (fun q => s.heap.size ≤ q) s s.heap ∧ STs s D E By In := by
  have hA : ∀ a : Nat, a < s.heap.size → ¬ s.heap.size ≤ a := fun a h => Nat.not_le.mpr h
  obtain ⟨f, hf⟩ := st_strs hts hn (hD 11 _ rfl)
  have W9 := fun w hw => hn w (in_stW w hw)
  obtain ⟨e0, u0, v0⟩ := st_emp (tm := stE0) (W9 _ List.mem_cons_self) (W9 _ (List.mem_cons_of_mem _ List.mem_cons_self)) (W9 _ (List.mem_cons_of_mem _ (List.mem_cons_of_mem _ List.mem_cons_self)))
  obtain ⟨e1, u1, v1⟩ := st_emp (tm := stE1) (W9 _ (List.mem_of_getElem? (i := 3) rfl)) (W9 _ (List.mem_of_getElem? (i := 4) rfl)) (W9 _ (List.mem_of_getElem? (i := 5) rfl))
  obtain ⟨ec, cc, u2, c2, c3, c4, c5, c6⟩ := st_arr (tm := stEC) (N := 256) (by decide) (W9 _ (List.mem_of_getElem? (i := 6) rfl)) (W9 _ (List.mem_of_getElem? (i := 7) rfl))
  obtain ⟨ad, ⟨vo, vf⟩, vl⟩ := vb_Cof (args := args) (s := s) (A := fun q => s.heap.size ≤ q) (st := stEC) rfl (va_eqt (W9 _ (List.mem_of_getElem? (i := 7) rfl))) (W9 _ (List.mem_of_getElem? (i := 8) rfl)) hA
  obtain ⟨eu, cu, cellu, ku, p1, p2, p3, -, p5, p6, -⟩ := Cond.exactly_spec (args := args) (first := s) (o := none) (s := s) (idx := []) (t := stEU) (cls := "jdk/internal/misc/Unsafe") (W9 _ (List.mem_of_getElem? (i := 9) rfl))
  have mi := fun q hq => va_Mi.of (hn _ (in_mirs _ (List.mem_map.mpr ⟨q, hq, rfl⟩)))
  obtain ⟨m0, hm0⟩ := mi _ (List.mem_of_getElem? (i := 0) rfl)
  obtain ⟨m1, hm1⟩ := mi _ (List.mem_of_getElem? (i := 1) rfl)
  have so : ∀ q ∈ am_stO, ∃ x : Nat, va_Z q.1 q.2.1 q.2.2.1 (va_rf (am_opt x)) (fun q => s.heap.size ≤ q) s s.heap := by
    intro q hq
    have hm : ∀ g : (String × (String × (String × Nat))) → Cond, g q ∈ am_stO.map g := fun g => List.mem_map.mpr ⟨q, hq, rfl⟩
    rcases va_Zqof (A := fun q => s.heap.size ≤ q) (hts _ (lay_am_stO _ (hm _))) (hts _ (ini_am_stO _ (hm _))) (hn _ (in_stO _ (hm _))) hA with z | ⟨t, z⟩
    · exact ⟨0, z⟩
    · exact ⟨t + 1, z⟩
  obtain ⟨o0, ho0⟩ := so _ (List.mem_of_getElem? (i := 0) rfl)
  obtain ⟨o1, ho1⟩ := so _ (List.mem_of_getElem? (i := 1) rfl)
  have lR : ∀ q ∈ am_stR, ∀ t : Nat, (Term.static q.1 q.2.1 q.2.2.1).eval args s none [] s = some (.ref t) → va_Z q.1 q.2.1 q.2.2.1 (.ref t) (fun q => s.heap.size ≤ q) s s.heap := by
    intro q hq t ht
    exact va_Zref (hts _ (lay_am_stR _ (List.mem_map.mpr ⟨q, hq, rfl⟩))) (hts _ (ini_am_stR _ (List.mem_map.mpr ⟨q, hq, rfl⟩))) ht hA
  have sm : ∀ k, k < 27 → (if k < 27 then (f k).1 else if k = 30 then e0 else if k = 31 then e1 else if k = 32 then ec else if k = 33 then eu else if k = 34 then o0 else if k = 35 then o1 else if k = 40 then m0 else m1) = (f k).1 := fun k hk => if_pos hk
  refine ⟨fun k => if k < 27 then (f k).1 else if k = 30 then e0 else if k = 31 then e1 else if k = 32 then ec else if k = 33 then eu else if k = 34 then o0 else if k = 35 then o1 else if k = 40 then m0 else m1, fun k => (f k).2, ad, ⟨?_, ?_, ?_, ?_, ?_, ?_, ?_⟩, ?_, ?_, ?_, ?_⟩
  · intro q hq
    obtain ⟨k, hk⟩ := List.mem_iff_getElem?.mp hq
    obtain ⟨r1, r2, -⟩ := st_row k q hk
    have := (hf k q hk).1
    dsimp only
    rw [r2, sm k r1]
    exact this
  · refine List.forall_mem_cons.mpr ⟨hm0, List.forall_mem_cons.mpr ⟨hm1, fun _ h => (by cases h)⟩⟩
  · intro q hq
    exact va_Zof (hts _ (lay_am_stI _ (List.mem_map.mpr ⟨q, hq, rfl⟩))) (hts _ (ini_am_stI _ (List.mem_map.mpr ⟨q, hq, rfl⟩))) (va_eqt (hn _ (in_stI _ (List.mem_map.mpr ⟨q, hq, rfl⟩)))) hA
  · refine List.forall_mem_cons.mpr ⟨lR _ (List.mem_of_getElem? (i := 0) rfl) e0 u0, List.forall_mem_cons.mpr ⟨lR _ (List.mem_of_getElem? (i := 1) rfl) e1 u1, List.forall_mem_cons.mpr ⟨lR _ (List.mem_of_getElem? (i := 2) rfl) ec u2, List.forall_mem_cons.mpr ⟨lR _ (List.mem_of_getElem? (i := 3) rfl) eu p1, fun _ h => (by cases h)⟩⟩⟩⟩
  · refine List.forall_mem_cons.mpr ⟨ho0, List.forall_mem_cons.mpr ⟨ho1, fun _ h => (by cases h)⟩⟩
  · intro q hq
    exact va_Nc.of (hn _ (in_ncs _ (List.mem_map.mpr ⟨q, hq, rfl⟩)))
  · have lu : eu < s.heap.size := (Array.getElem?_eq_some_iff.mp p3).1
    exact ⟨lu, hA eu lu, cellu, p3, p5, by rw [p6]; exact p2⟩
  · intro k hk
    obtain ⟨q, hq⟩ := st_rowx k hk
    have := (hf k q hq).2
    dsimp only
    rw [sm k hk]
    exact this
  · intro k hk
    rcases hk with rfl | rfl
    · exact v0
    · exact v1
  · exact ⟨cc, c3, c4, c5, c6, fun j hj => st_el u2 c2 (by omega) (vl j hj)⟩
  · intro j hj
    obtain ⟨cell, a1, a2, a3, -⟩ := vo j hj
    obtain ⟨cf, k, i, fd, cell', b1, b2, b3, b4, b5, -⟩ := vf j hj
    cases a1.symm.trans b3
    have K := hD 9 _ rfl
    obtain ⟨cf', kf', fi', fd', g1, g2⟩ := K.1 0 (by decide)
    cases b1.symm.trans g1
    refine ⟨cell, a1, ?_, b4, a2, by rw [← g2]; exact b5⟩
    exact Option.some.inj (a3.symm.trans K.2.1)
theorem st_SP (hts : ∀ w ∈ lw_tbl, w.before args s = true) {D : va_G} {dA : Nat → ClassId} {E : Nat → Nat} (hD : ∀ (c : Nat) (q : vw_C), am_cls[c]? = some q → u_Kn s q.1 q.2.1 q.2.2 (D.1 c) (D.2 c)) (hdA : ∀ (k : Nat) (q : ClassId × FieldType), (am_tys dA)[k]? = some q → ArrOfT s q.1 q.2 ∧ va_RA s q.1 q.2)
    (hE : SEf E (fun q => s.heap.size ≤ q) s s.heap) : SP D dA (fun q => s.heap.size ≤ q) E s s.heap := by
  have X := fun w hw => hts w (in_stX w hw)
  have R := fun w hw => hts w (in_arr w hw)
  refine ⟨⟨hD, hdA⟩, fun a i b n d h hw => va_Nw.of rfl (hts _ hw), fun a i x h hw => va_Nw.of rfl (hts _ hw), ⟨va_AO.of (R _ (List.mem_of_getElem? (i := 4) rfl)), va_AO.of (R _ (List.mem_of_getElem? (i := 5) rfl)), fun C T hw => va_Nw.of rfl (hts _ hw)⟩, fun x hw => va_Nw.of rfl (hts _ hw), ⟨?_, ?_, ?_⟩, ?_, hE, fun q h => h⟩
  · exact va_Fw.of (X _ (List.mem_of_getElem? (i := 0) rfl)) (X _ (List.mem_of_getElem? (i := 1) rfl)) (X _ (List.mem_of_getElem? (i := 2) rfl)) (X _ (List.mem_of_getElem? (i := 3) rfl)) (X _ (List.mem_of_getElem? (i := 4) rfl))
  · exact va_Fw.of (X _ (List.mem_of_getElem? (i := 5) rfl)) (X _ (List.mem_of_getElem? (i := 6) rfl)) (X _ (List.mem_of_getElem? (i := 7) rfl)) (X _ (List.mem_of_getElem? (i := 8) rfl)) (X _ (List.mem_of_getElem? (i := 9) rfl))
  · have sel : ∀ y : MethodName, y.cls = "java/lang/AbstractStringBuilder" → (Cond.privateMethod y).before args s = true → (Cond.instanceMethod y).before args s = true → va_Nw (.selects "java/lang/StringBuilder" y y) s := fun y h1 h2 h3 =>
      va_Nw.of rfl (am_selP (x0 := ⟨"java/lang/AbstractStringBuilder", "isLatin1", "()Z"⟩) (by rw [h1]; decide) (X _ (List.mem_of_getElem? (i := 11) rfl)) h1.symm h2 h3)
    exact List.forall_mem_cons.mpr ⟨sel _ rfl (X _ (List.mem_of_getElem? (i := 12) rfl)) (X _ (List.mem_of_getElem? (i := 13) rfl)), List.forall_mem_cons.mpr ⟨sel _ rfl (X _ (List.mem_of_getElem? (i := 14) rfl)) (X _ (List.mem_of_getElem? (i := 15) rfl)), List.forall_mem_cons.mpr ⟨sel _ rfl (X _ (List.mem_of_getElem? (i := 16) rfl)) (X _ (List.mem_of_getElem? (i := 17) rfl)), List.forall_mem_cons.mpr ⟨sel _ rfl (X _ (List.mem_of_getElem? (i := 18) rfl)) (X _ (List.mem_of_getElem? (i := 19) rfl)), fun _ h => (by cases h)⟩⟩⟩⟩
  · exact va_Dc.of (X _ (List.mem_of_getElem? (i := 10) rfl))
end SU
