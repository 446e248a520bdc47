/-! THE SIMULATION, part P: calls of every kind, and what stands behind them -/
def am_Run (len : Nat) (p : Program) (l : Launch) (e : Env) (R : Room) (s : State) (m : MethodId) (args : Array Value) (below : List Frame) (meth : Method) (c : Code) (H : Heap) (locs : List Loc) (cells slots mc ms : Nat) (g : JFrame) (rest : List Value) (Qa : State → Outcome → State → Prop) (XC : Addr → String → State → State → Prop) (free : Addr → Prop) : Prop :=
  ∀ T : State, T.heap = H → Stand p l e R s m args below meth c T locs cells slots →
    (∃ (v : Option Value) (st₀ t T' : State) (L : List Loc), st₀.heap = H ∧ Stand p l e R s m args below meth c T' (locs ++ L) (cells + mc) (slots + ms) ∧ (∀ q ∈ L, free q.base) ∧ T'.heap = t.heap ∧ T'.vm = t.vm ∧ Qa st₀ (.returned v) t ∧
      Goes p e below T g T' { g with pc := g.pc + len, stack := v.toList ++ rest }) ∨
    (∃ (q : Addr) (st₀ t T' : State) (L : List Loc) (E : String) (ce : Cell), st₀.heap = H ∧ Stand p l e R s m args below meth c T' (locs ++ L) (cells + mc) (slots + ms) ∧ (∀ z ∈ L, free z.base) ∧ T'.heap = t.heap ∧ T'.vm = t.vm ∧ XC q E st₀ t ∧ t.heap[q]? = some ce ∧ ce.vm = .none ∧ s.vm.findClass E = some ce.cls ∧
      Steps p.tables e below (T.setTop g) ((T'.setTop { g with stack := rest }).pushFrame (.throwing q)))
/-- a method's words: with its handlers, or without -/
def am_ws (y : MethodName) (b : ByteArray) (L : Nat) (r : Option FieldType) : List (Nat × Nat × Nat × Nat) → List Cond
  | [] => ws_ y b L r
  | x :: hh => wsW_ y b L r (x :: hh)
def am_CD (y : MethodName) (b : ByteArray) (L : Nat) (r : Option FieldType) : List (Nat × Nat × Nat × Nat) → Prop
  | [] => Cond.code y b L r ∈ lw_all
  | x :: hh => Cond.codeWith y b L r (x :: hh) ∈ lw_all
def am_VX (own : String) (ins : Instr) (len : Nat) (C : String) (y : MethodName) (rt : Option FieldType) (n : Nat) (hh : List (Nat × Nat × Nat × Nat)) : Prop :=
  (hh = [] ∧ len = 3 ∧ am_VC own ins C y rt n) ∨
  (hh = [] ∧ len = 5 ∧ ∃ idx count x, ins = .invokeinterface idx count ∧ C = "java/lang/String" ∧ ((x = am_xCmp ∧ y = am_yCmp) ∨ (x = am_xStr ∧ y = am_yStr)) ∧ Cond.methodLink own idx x ∈ lw_all ∧ Cond.selects C x y ∈ lw_all ∧ Cond.instanceMethod y ∈ lw_all) ∨
  (hh ≠ [] ∧ len = 3 ∧ ∃ idx, ins = .invokevirtual idx ∧ y.cls = C ∧ Cond.methodLink own idx y ∈ lw_all ∧ Cond.instanceMethod y ∈ lw_all ∧ Cond.selects C y y ∈ lw_all)
section SIMP
variable {p : Program} {l : Launch} {e : Env} {R : Room} {s : State} {m : MethodId} {args : Array Value} {below : List Frame} {meth : Method} {c : Code} {cc : ByteArray} {Q : State → Prop} {nL N0 S0 : Nat} {LS : List Nat}
variable {pc : Nat} {ls : List (Option am_V)} {st : List am_V} {h h' : am_H} {fr' : am_F} {D : va_G} {dA : Nat → ClassId} {A : Nat → Prop} {own : String}
theorem sw_runL {H : Heap} {locs : List Loc} {cells slots mc ms len : Nat} {arr : Array Slot} {st0 rest : List Value} {o : am_O} {Qa : State → Outcome → State → Prop} {XC : Addr → String → State → State → Prop} {free : Addr → Prop}
    (hr : am_Run len p l e R s m args below meth c H locs cells slots mc ms (F0 m pc arr st0) rest Qa XC free) (hQ : ∀ st₀ oc t, Qa st₀ oc t → (∃ v, o = Sum.inl v ∧ oc = .returned (v.map am_e)) ∧ SH D dA A t h' t.heap ∧ va_F A st₀ t) (hX : ∀ q E st₀ t, XC q E st₀ t → o = Sum.inr q ∧ E = am_wn ∧ SH D dA A t h' t.heap ∧ va_F A st₀ t) (hS : va_S A s.heap H locs) (hf : ∀ q, free q → A q)
    (k1 : ∀ v, o = Sum.inl v → ∀ (H' : Heap) (locs' : List Loc), SGf D dA A s h' H' locs' → W p l e R s m args below meth c H' locs' (cells + mc) (slots + ms) Q (F0 m (pc + len) arr ((v.map am_e).toList ++ rest)))
    (k2 : ∀ q, o = Sum.inr q → ∀ (H' : Heap) (locs' : List Loc) (ce : Cell), SGf D dA A s h' H' locs' → H'[q]? = some ce → ce.vm = .none → s.vm.findClass am_wn = some ce.cls → vx_W p l e R s m args below meth c H' locs' (cells + mc) (slots + ms) Q (F0 m pc arr rest) q) : W p l e R s m args below meth c H locs cells slots Q (F0 m pc arr st0) := by
  intro T hT X
  rcases hr T hT X with ⟨v, st₀, t, T', L, h0, X', hL, e1, e2, hq, hgo⟩ | ⟨q, st₀, t, T', L, E, ce, h0, X', hL, e1, e2, hq, hce, hcv, hcl, hst⟩
  · obtain ⟨⟨v', ho, hv⟩, hsh, hF⟩ := hQ _ _ _ hq
    obtain ⟨-, -, hS'⟩ := vx_keep h0 e1 hS (fun _ _ z => z) hf hL hF
    cases hv
    have hal : t.vm.Alike s.vm := by rw [← e2]; exact X'.warmed.alike.symm
    obtain ⟨t', a1, b1⟩ := k1 v' ho T'.heap (locs ++ L) ⟨by rw [e1]; exact hsh.moved hal, hS'⟩ T' rfl X'
    exact ⟨t', hgo t' a1, b1⟩
  · obtain ⟨ho, rfl, hsh, hF⟩ := hX _ _ _ _ hq
    obtain ⟨-, -, hS'⟩ := vx_keep h0 e1 hS (fun _ _ z => z) hf hL hF
    have hal : t.vm.Alike s.vm := by rw [← e2]; exact X'.warmed.alike.symm
    obtain ⟨t', a1, b1⟩ := k2 q ho T'.heap (locs ++ L) ce ⟨by rw [e1]; exact hsh.moved hal, hS'⟩ (by rw [e1]; exact hce) hcv hcl T' rfl X'
    exact ⟨t', hst.trans a1, b1⟩
theorem sc_callX {ins : Instr} {C : String} {y : MethodName} {bytes : ByteArray} {maxL n mc ms cells slots len : Nat} {rt : Option FieldType} {hh : List (Nat × Nat × Nat × Nat)} {rm : Room} {Pc : Array Value → State → Prop} {Qc : Array Value → State → Outcome → State → Prop} {XC : Addr → String → State → State → Prop} {H : Heap} {locs : List Loc} {arr : Array Slot} {vs : List Value} {rest : List Value}
    (S : CallFix p m c cc nL s args lw_all own) (hP : SXm s ∧ SD s ∧ SFf s) (V : am_VX own ins len C y rt n hh) (hcode : am_CD y bytes maxL rt hh) (hini : Cond.initialized y.cls ∈ lw_all) (hmh : y.cls ≠ "java/lang/invoke/MethodHandle" ∧ y.cls ≠ "java/lang/invoke/VarHandle" ∧ (parseMethodDescriptor y.desc).map (fun d => d.parameters.length) = some n)
    (hM : vx_Met l y (am_ws y bytes maxL rt hh) rm Pc Qc XC mc ms A) (hrc : rm.cells = mc) (hrs : rm.slots = ms) (hR : rm.frames + 1 ≤ R.frames ∧ 8 + (maxL + 11) + rm.locals ≤ R.locals) (hbl : FrameBlind Pc) (hpre : ∀ U : State, U.heap = H → s.WarmedH U.vm → Pc vs.toArray U)
    (hrec : (∃ idx, ins = .invokestatic idx) ∨ ∃ b As, vs = .ref b :: As ∧ As.length = n ∧ ∃ cell : Cell, H[b]? = some cell ∧ cell.vm.isStatics = false ∧ s.vm.findClass C = some cell.cls) (hst : (∃ idx, ins = .invokestatic idx) → vs.length = n)
    (hsz : arr.size = nL) (hW : (rest.map fun v => v.category).sum ≤ 8) (hd : decode cc pc = .ok (ins, len)) (hf : cells + mc ≤ R.cells ∧ slots + ms ≤ R.slots) :
    am_Run len p l e R s m args below meth c H locs cells slots mc ms (F0 m pc arr (vs.reverse ++ rest)) rest (Qc vs.toArray) XC A := by
  obtain ⟨hx, hb, hml, hown, hts⟩ := id S
  have hW9 : 2 * (F0 m pc arr (vs.reverse ++ rest)).monitorRoom + (rest.map fun v => v.category).sum ≤ 8 := by
    show 2 * 0 + _ ≤ 8
    omega
  rcases V with ⟨rfl, rfl, V⟩ | ⟨rfl, rfl, idx, count, x, rfl, rfl, vxy, v1, v2, v3⟩ | ⟨hh0, rfl, idx, rfl, v0, v1, v2, v3⟩
  · exact sc_call S ⟨hP.1, hP.2.1, hP.2.2.2.2⟩ V hcode hini hmh hM hrc hrs hR hbl hpre hrec hst hsz hW hd hf
  · rcases hrec with ⟨i9, z⟩ | ⟨b, As, rfl, hn, hr⟩
    · cases z
    · obtain ⟨cell9, -, -, hC⟩ := id hr
      obtain ⟨kC, hkC, -⟩ := Vm.findClass_spec hC
      have hF : va_Fw "java/lang/String" x y s := by
        rcases vxy with ⟨rfl, rfl⟩ | ⟨rfl, rfl⟩
        · exact hP.2.2.1
        · exact hP.2.2.2.1
      have hxd : x.cls ≠ "java/lang/invoke/MethodHandle" ∧ x.cls ≠ "java/lang/invoke/VarHandle" ∧ x.desc = y.desc := by
        rcases vxy with ⟨rfl, rfl⟩ | ⟨rfl, rfl⟩ <;> exact ⟨by decide, by decide, rfl⟩
      exact vx_runF ⟨hC, kC, hkC, trivial⟩ S hM (va_cwF n hts (lw_app (by
        intro w hw
        simp only [List.mem_cons, List.not_mem_nil, or_false] at hw
        rcases hw with z | z | z | z <;> rw [z]
        · exact v1
        · exact v2
        · exact v3
        · exact hini) (lw_meth hcode)) rfl hrc hrs hF ⟨hxd.1, hxd.2.1, by rw [hxd.2.2]; exact hmh.2.2⟩ hR) ⟨hbl, hr, hpre⟩ rfl hn hsz (by simp) hW9 hd hf
  · rcases hrec with ⟨i9, z⟩ | ⟨b, As, rfl, hn, hr⟩
    · cases z
    · cases hh with
      | nil => exact absurd rfl hh0
      | cons x hh =>
        exact vx_runVX S hM (vx_cwVW n hts (lw_VW v1 v2 v3 (by rw [← v0]; exact hini) hcode) rfl hrc hrs ⟨v0, hmh⟩ hR) ⟨hbl, hr, hpre⟩ rfl hn hsz (by simp) hW9 hd hf
end SIMP
