/-! THE SIMULATION, part K: what a method is handed, its contract, calls by their links -/
/-- all that a body needs of the state beside its heap's cells -/
def SD (U : State) : Prop := ∀ x : MethodName, Cond.declares x ∈ lw_tbl → va_Nw (.declares x) U
def am_xCmp : MethodName := ⟨"java/lang/Comparable", "compareTo", "(Ljava/lang/Object;)I"⟩
def am_yCmp : MethodName := ⟨"java/lang/String", "compareTo", "(Ljava/lang/Object;)I"⟩
def am_xStr : MethodName := ⟨"java/lang/CharSequence", "toString", "()Ljava/lang/String;"⟩
def am_yStr : MethodName := ⟨"java/lang/String", "toString", "()Ljava/lang/String;"⟩
/-- private methods of StringBuilder's superclass: what a StringBuilder selects -/
def am_pv : List MethodName := [⟨"java/lang/AbstractStringBuilder", "ensureCapacityInternal", "(I)V"⟩, ⟨"java/lang/AbstractStringBuilder", "newCapacity", "(I)I"⟩, ⟨"java/lang/AbstractStringBuilder", "putStringAt", "(ILjava/lang/String;)V"⟩, ⟨"java/lang/AbstractStringBuilder", "inflateIfNeededFor", "(Ljava/lang/String;)V"⟩]
def SV (U : State) : Prop := ∀ y ∈ am_pv, va_Nw (.selects "java/lang/StringBuilder" y y) U
theorem SV.moved {s U : State} (hW : s.WarmedH U.vm) (h : SV s) : SV U := fun y hy => word_at hW (Or.inl (by first | rfl | simp [Cond.onTables, Cond.keeps, Cond.steady])) (h y hy)
def SFf (U : State) : Prop := va_Fw "java/lang/String" am_xCmp am_yCmp U ∧ va_Fw "java/lang/String" am_xStr am_yStr U ∧ SV U
def SP (D : va_G) (dA : Nat → ClassId) (A : Nat → Prop) (E : Nat → Nat) (U : State) (H : Heap) : Prop := va_K D am_cls (am_tys dA) U ∧ SXf U ∧ SXm U ∧ SB U ∧ SD U ∧ SFf U ∧ va_Dc U ∧ SEf E A U H ∧ ∀ q : Nat, H.size ≤ q → A q
theorem SEf.moved {E : Nat → Nat} {A : Nat → Prop} {s U : State} {H H1 : Heap} (hW : s.WarmedH U.vm) (hq : ∀ a : Nat, a < H.size → ¬ A a → H1[a]? = H[a]?) (k : SEf E A s H) : SEf E A U H1 := by
  obtain ⟨k1, k2, k3, k4, k5, k6, k7, k8, k9⟩ := k
  refine ⟨fun q h => (k1 q h).warm hW, fun q h => (k2 q h).moved hW.alike, fun q h => ((k3 q h).moved hW.alike).kept hq, fun q h => ((k4 q h).moved hW.alike).kept hq, fun q h => ((k5 q h).moved hW.alike).kept hq, fun q h => (k6 q h).moved hW.alike, ?_⟩
  obtain ⟨cell, c1, c2, c3⟩ := k9
  have e := hq _ k7 k8
  rw [c1] at e
  exact ⟨(Array.getElem?_eq_some_iff.mp e).1, k8, cell, e, c2, by rw [hW.alike.findClass]; exact c3⟩
theorem SP.moved {D : va_G} {dA : Nat → ClassId} {A : Nat → Prop} {E : Nat → Nat} {s U : State} {H H1 : Heap} (hW : s.WarmedH U.vm) (hs : H.size ≤ H1.size) (hq : ∀ a : Nat, a < H.size → ¬ A a → H1[a]? = H[a]?) (k : SP D dA A E s H) : SP D dA A E U H1 := by
  obtain ⟨k1, k2, k3, ⟨k4, k4', k4''⟩, k5, ⟨k6, k6', k6''⟩, k7, k8, k9⟩ := k
  exact ⟨k1.moved hW.alike, k2.warm hW, k3.warm hW, ⟨k4.moved hW.alike, k4'.moved hW.alike, fun C T h => (k4'' C T h).warmC hW⟩, fun x h => (k5 x h).warmD hW, ⟨k6.moved (by decide) hW.alike, k6'.moved (by decide) hW.alike, k6''.moved hW⟩, k7.moved hW.alike, k8.moved hW hq, fun q h => k9 q (Nat.le_trans hs h)⟩
theorem SP.same {D : va_G} {dA : Nat → ClassId} {A : Nat → Prop} {E : Nat → Nat} {s U : State} {H : Heap} (hv : U.vm = s.vm) (k : SP D dA A E s H) : SP D dA A E U H :=
  k.moved (by rw [hv]; exact State.WarmedH.refl s) (Nat.le_refl _) (fun _ _ _ => rfl)
/-- a method's start -/
def am_Pc (D : va_G) (dA : Nat → ClassId) (A : Nat → Prop) (vs : List am_V) (h : am_H) : Array Value → State → Prop := fun a U => a = (vs.map am_e).toArray ∧ SP D dA A (hE h) U U.heap ∧ SH D dA A U h U.heap
theorem am_Pc_blind {D : va_G} {dA : Nat → ClassId} {A : Nat → Prop} {vs : List am_V} {h : am_H} : FrameBlind (am_Pc D dA A vs h) := by
  intro a U g mk q
  obtain ⟨q1, q2, q3⟩ := q
  have e1 : (U.calling g mk a).heap = U.heap := rfl
  refine ⟨q1, ?_, ?_⟩
  · rw [e1]
    exact q2.same rfl
  · rw [e1]
    exact q3.moved (Vm.Alike.refl U.vm)
theorem am_pop_eq : ∀ (sg : List Nat) (acc st args rest : List am_V), am_pop sg acc st = some (args, rest) → acc.reverse ++ st = args.reverse ++ rest
  | [], acc, st, args, rest, h => by
    simp only [am_pop, Option.some.injEq, Prod.mk.injEq] at h
    rw [h.1, h.2]
  | n :: sg, acc, st, args, rest, h => by
    unfold am_pop at h
    split at h
    all_goals first
      | (cases h; done)
      | (rename_i e1; cases e1; done)
      | (rename_i e1; cases e1; have := am_pop_eq sg _ _ _ _ h; simpa using this)
section SIMK
variable {p : Program} {l : Launch} {e : Env} {R : Room} {s : State} {m : MethodId} {args : Array Value} {below : List Frame} {meth : Method} {c : Code} {cc : ByteArray} {Q : State → Prop} {nL N0 S0 : Nat} {LS : List Nat}
variable {pc : Nat} {ls : List (Option am_V)} {st : List am_V} {h h' : am_H} {fr' : am_F} {D : va_G} {dA : Nat → ClassId} {A : Nat → Prop} {own : String}
/-- a private method is selected whatever the receiver's class -/
theorem am_selP {C : String} {x0 y : MethodName} (hy : y.cls ≠ "java/lang/invoke/MethodHandle" ∧ y.cls ≠ "java/lang/invoke/VarHandle") (h0 : (Cond.selects C x0 x0).before args s = true) (hx : x0.cls = y.cls) (hpriv : (Cond.privateMethod y).before args s = true) (hinst : (Cond.instanceMethod y).before args s = true) : (Cond.selects C y y).before args s = true := by
  obtain ⟨c, r, m0, hc, hr, hn0, -, k, hk, hni⟩ := Cond.selects_spec h0
  obtain ⟨mk, methM, hnamed, hmethM, -, -⟩ := Cond.instanceMethod_spec hinst
  have hfound : s.methodFound? y.cls y.name y.desc = some mk := State.methodFound?_of_named hnamed hy
  have hcls : mk.cls = m0.cls := Option.some.inj ((findClass_of_methodNamed hnamed).symm.trans (by rw [← hx]; exact findClass_of_methodNamed hn0))
  have hsel : selectMethod {} s.vm c mk = .method mk := selectMethod_private hmethM (Cond.privateMethod_at hpriv mk methM hnamed hmethM)
  simp only [Cond.before, Cond.holds, Cond.value, hc, hfound, hnamed, hsel, hcls, hk]
  simp; exact hni
/-- the links of a call: static; constructor; nest mate's constructor; a superclass's method; a method of the receiver's class; an inherited or overriding one -/
def am_VC (own : String) (ins : Instr) (C : String) (y : MethodName) (rt : Option FieldType) (n : Nat) : Prop :=
  (∃ idx, ins = .invokestatic idx ∧ Cond.methodLink own idx y ∈ lw_all ∧ Cond.static y ∈ lw_all) ∨
  (∃ idx, ins = .invokespecial idx ∧ rt = none ∧ y.name = "<init>" ∧ Cond.methodLink own idx y ∈ lw_all ∧ Cond.instanceMethod y ∈ lw_all) ∨
  (∃ idx host, ins = .invokespecial idx ∧ rt = none ∧ y.name = "<init>" ∧ Cond.methodLinkNest own idx y host ∈ lw_tbl ∧ Cond.instanceMethod y ∈ lw_all) ∨
  (∃ idx, ins = .invokespecial idx ∧ y.name ≠ "<init>" ∧ Cond.methodLink own idx y ∈ lw_all ∧ Cond.sameMethod y.cls y.cls y.name y.desc ∈ lw_all ∧ Cond.superclass own y.cls ∈ lw_all ∧ Cond.instanceMethod y ∈ lw_all) ∨
  (∃ idx, ins = .invokevirtual idx ∧ y.cls = C ∧ Cond.methodLink own idx y ∈ lw_all ∧ Cond.instanceMethod y ∈ lw_all ∧ Cond.selects C y y ∈ lw_all) ∨
  (∃ idx owner x, ins = .invokevirtual idx ∧ x.desc = y.desc ∧ (owner ≠ "java/lang/invoke/MethodHandle" ∧ owner ≠ "java/lang/invoke/VarHandle") ∧ Cond.methodLink own idx x ∈ lw_all ∧ Cond.sameMethod x.cls owner x.name x.desc ∈ lw_all ∧ (Cond.selects C x y ∈ lw_all ∨ x = y ∧ C = "java/lang/StringBuilder" ∧ y ∈ am_pv) ∧ Cond.instanceMethod y ∈ lw_all ∧ (Cond.declares ⟨owner, x.name, x.desc⟩ ∈ lw_tbl ∨ (Cond.instanceMethod ⟨owner, x.name, x.desc⟩ ∈ lw_all ∧ ∃ b0 m0 r0, Cond.code ⟨owner, x.name, x.desc⟩ b0 m0 r0 ∈ lw_all)))
theorem sc_call {ins : Instr} {C : String} {y : MethodName} {bytes : ByteArray} {maxL n mc ms cells slots : Nat} {rt : Option FieldType} {rm : Room} {Pc : Array Value → State → Prop} {Qc : Array Value → State → Outcome → State → Prop} {XC : Addr → String → State → State → Prop} {H : Heap} {locs : List Loc} {arr : Array Slot} {vs : List Value} {rest : List Value}
    (S : CallFix p m c cc nL s args lw_all own) (hP : SXm s ∧ SD s ∧ SV s) (V : am_VC own ins C y rt n) (hcode : Cond.code y bytes maxL rt ∈ lw_all) (hini : Cond.initialized y.cls ∈ lw_all) (hmh : y.cls ≠ "java/lang/invoke/MethodHandle" ∧ y.cls ≠ "java/lang/invoke/VarHandle" ∧ (parseMethodDescriptor y.desc).map (fun d => d.parameters.length) = some n)
    (hM : vx_Met l y (ws_ y bytes maxL rt) rm Pc Qc XC mc ms A) (hrc : rm.cells = mc) (hrs : rm.slots = ms) (hR : rm.frames + 1 ≤ R.frames ∧ 8 + (maxL + 11) + rm.locals ≤ R.locals) (hbl : FrameBlind Pc) (hpre : ∀ U : State, U.heap = H → s.WarmedH U.vm → Pc vs.toArray U)
    (hrec : (∃ idx, ins = .invokestatic idx) ∨ ∃ b As, vs = .ref b :: As ∧ As.length = n ∧ ∃ cell : Cell, H[b]? = some cell ∧ cell.vm.isStatics = false ∧ s.vm.findClass C = some cell.cls) (hst : (∃ idx, ins = .invokestatic idx) → vs.length = n)
    (hsz : arr.size = nL) (hW : (rest.map fun v => v.category).sum ≤ 8) (hd : decode cc pc = .ok (ins, 3)) (hf : cells + mc ≤ R.cells ∧ slots + ms ≤ R.slots) :
    vx_Run p l e R s m args below meth c H locs cells slots mc ms (F0 m pc arr (vs.reverse ++ rest)) rest (Qc vs.toArray) XC A := by
  obtain ⟨hx, hb, hml, hown, hts⟩ := id S
  have hW9 : 2 * (F0 m pc arr (vs.reverse ++ rest)).monitorRoom + (rest.map fun v => v.category).sum ≤ 8 := by
    show 2 * 0 + _ ≤ 8
    omega
  rcases V with ⟨idx, rfl, v1, v2⟩ | ⟨idx, rfl, rfl, v0, v1, v2⟩ | ⟨idx, host, rfl, rfl, v0, v1, v2⟩ | ⟨idx, rfl, v0, v1, v2, v3, v4⟩ | ⟨idx, rfl, v0, v1, v2, v3⟩ | ⟨idx, owner, x, rfl, v0, v00, v1, v2, v3, v4, v5⟩
  · exact vx_runS S hM (va_cwS n hts (lw_S v1 v2 hini hcode) rfl hrc hrs hmh hR) ⟨hbl, hpre⟩ rfl (hst ⟨idx, rfl⟩) hsz rfl hW9 hd hf
  · rcases hrec with ⟨i9, z⟩ | ⟨b, As, rfl, hn, -⟩
    · cases z
    · exact vx_runI S hM (cwI n hts (lw_meth hcode) rfl hrc hrs (hts _ hini) (hts _ v1) (hts _ v2) v0 hmh hR) ⟨hbl, hpre⟩ rfl hn hsz (by simp) hW9 hd hf
  · rcases hrec with ⟨i9, z⟩ | ⟨b, As, rfl, hn, -⟩
    · cases z
    · exact vx_runIN S hM ⟨va_cnB n hts (lw_meth hcode) rfl hrc hrs (hP.1 _ _ _ _ v1) (hts _ hini) hmh hR, v0, hts _ v2⟩ ⟨hbl, hpre⟩ rfl hn hsz (by simp) hW9 hd hf
  · rcases hrec with ⟨i9, z⟩ | ⟨b, As, rfl, hn, hr⟩
    · cases z
    · obtain ⟨cell9, -, -, hC⟩ := id hr
      obtain ⟨kC, hkC, -⟩ := Vm.findClass_spec hC
      exact vx_runSU ⟨hC, kC, hkC, trivial⟩ S hM (va_cwSU n hts (lw_app (by
        intro w hw
        simp only [List.mem_cons, List.not_mem_nil, or_false] at hw
        rcases hw with z | z | z | z | z <;> rw [z]
        · exact v1
        · exact v2
        · exact v3
        · exact v4
        · exact hini) (lw_meth hcode)) rfl hrc hrs ⟨v0, hmh.2.2⟩ hR) ⟨hbl, hr, hpre⟩ rfl hn hsz (by simp) hW9 hd hf
  · rcases hrec with ⟨i9, z⟩ | ⟨b, As, rfl, hn, hr⟩
    · cases z
    · exact vx_runV S hM (cwV n hts (lw_V v1 v2 v3 (by rw [← v0]; exact hini) hcode) rfl hrc hrs ⟨v0, hmh⟩ hR) ⟨hbl, hr, hpre⟩ rfl hn hsz (by simp) hW9 hd hf
  · rcases hrec with ⟨i9, z⟩ | ⟨b, As, rfl, hn, hr⟩
    · cases z
    · have hdecl : va_Decl s ⟨owner, x.name, x.desc⟩ := by
        rcases v5 with v5 | ⟨v5, b0, m0, r0, v6⟩
        · exact va_Decl.abs (hP.2.1 _ v5)
        · exact va_Decl.of (hts _ v5) (hts _ v6)
      have hsel : (Cond.selects C x y).before args s = true := by
        rcases v3 with v3 | ⟨w0, w1, w2⟩
        · exact hts _ v3
        · rw [w0, w1]
          exact va_Nw.use rfl (hP.2.2 _ w2)
      have hc9 : Cond.code y bytes maxL rt ∈ ws_ y bytes maxL rt := List.mem_cons_self
      refine vx_runU S hM ⟨⟨hrc, hrs, hR.1, hR.2, pay_in hts (lw_meth hcode), hc9⟩, hts _ hcode, hts _ hini, v00, fun sig hs => ?_, hts _ v1, hts _ v2, hdecl, hsel, hts _ v4⟩ ⟨hbl, hr, hpre⟩ rfl hn hsz (by simp) hW9 hd hf
      have h2 := hmh.2.2
      rw [← v0, hs] at h2
      exact (Option.some.inj h2).symm
end SIMK
