/-! THE SIMULATION, part Q: what the tables must say of a method; a run of the plain machine is a run of the program -/
/-- name, code, what it returns, handlers, types of its arguments, the places of longs, how many parameters -/
abbrev am_T : Type := MethodName × (ByteArray × (Option FieldType × (List (Nat × Nat × Nat × Nat) × (List Nat × (List Nat × Nat)))))
def am_yClone : MethodName := ⟨"java/lang/Object", "clone", "()Ljava/lang/Object;"⟩
def am_yGetC : MethodName := ⟨"java/lang/Object", "getClass", "()Ljava/lang/Class;"⟩
/-- sites of natives -/
def am_VT (own : String) (ins : Instr) (t : List (Nat × Nat)) (n : Nat) : Prop :=
  (n = 1000 ∧ ∃ idx, ins = .invokespecial idx ∧ Cond.methodLink own idx Lib.objectInit ∈ lw_all ∧ Cond.instanceMethod Lib.objectInit ∈ lw_all ∧ Cond.code Lib.objectInit ⟨#[0xb1]⟩ 1 none ∈ lw_all) ∨
  (n = 1001 ∧ ∃ idx, ins = .invokestatic idx ∧ Cond.methodLink own idx arraycopyName ∈ lw_all ∧ Cond.native arraycopyName ∈ lw_all ∧ Cond.static arraycopyName ∈ lw_all ∧ Cond.initialized "java/lang/System" ∈ lw_all) ∨
  (n = 1002 ∧ ∃ idx, ins = .invokevirtual idx ∧ Cond.methodLink own idx am_yGetC ∈ lw_all ∧ Cond.native am_yGetC ∈ lw_all ∧ Cond.instanceMethod am_yGetC ∈ lw_all ∧ ∀ q ∈ t, (q.1 = 10 ∨ q.1 = 11 ∨ q.1 = 46 ∨ q.1 = 47) ∧ (am_kn q.1, q.2) ∈ am_mirs ∧ Cond.selects (am_kn q.1) am_yGetC am_yGetC ∈ lw_all) ∨
  (n = 1003 ∧ ∃ idx, ins = .invokevirtual idx ∧ Cond.methodLink own idx am_yGL ∈ lw_all ∧ Cond.instanceMethod am_yGL ∈ lw_all ∧ Cond.selects "jdk/internal/misc/Unsafe" am_yGL am_yGL ∈ lw_all ∧ Cond.native am_yGL ∈ lw_all) ∨
  (n = 1004 ∧ ∃ idx, ins = .invokevirtual idx ∧ Cond.methodLink own idx ⟨"[B", "clone", "()Ljava/lang/Object;"⟩ ∈ lw_all ∧ Cond.sameMethod "[B" "java/lang/Object" "clone" "()Ljava/lang/Object;" ∈ lw_all ∧ Cond.native am_yClone ∈ lw_all ∧ Cond.instanceMethod am_yClone ∈ lw_all ∧ Cond.selects "[B" ⟨"[B", "clone", "()Ljava/lang/Object;"⟩ am_yClone ∈ lw_all ∧ Cond.castable "[B" "java/lang/Cloneable" ∈ lw_tbl)
/-- sites of calls, by the receiver's kind -/
def am_VQ (own : String) (ins : Instr) (len k : Nat) (T : am_T) : Prop :=
  (∃ idx, ins = .invokestatic idx ∧ T.2.2.2.2.1.length = T.2.2.2.2.2.2 ∧ ∀ C, am_VX own ins len C T.1 T.2.2.1 T.2.2.2.2.2.2 T.2.2.2.1) ∨
  (∃ idx, ins = .invokespecial idx ∧ T.2.2.2.2.1.length = T.2.2.2.2.2.2 + 1 ∧ ∀ C, am_VX own ins len C T.1 T.2.2.1 T.2.2.2.2.2.2 T.2.2.2.1) ∨
  (((∃ idx, ins = .invokevirtual idx) ∨ ∃ idx c, ins = .invokeinterface idx c) ∧ T.2.2.2.2.1.length = T.2.2.2.2.2.2 + 1 ∧ 0 < k ∧ k < 40 ∧ am_VX own ins len (am_kn k) T.1 T.2.2.1 T.2.2.2.2.2.2 T.2.2.2.1)
def am_HC (own : String) (hh : List (Nat × Nat × Nat × Nat)) (pc : Nat) (ai : am_I) : Prop := (∀ a sg, am_isInv ai.1 = true → ai.2.2.1 = a :: 0 :: sg → ∀ x ∈ tableOf hh, covers x pc = false) ∧ (ai.1 = .athrow → ∀ x ∈ tableOf hh, covers x pc = false) ∧
  ∀ tg, am_isInv ai.1 = true → am_hdl ai = some tg → ∃ x, tableOf hh = [x] ∧ covers x pc = true ∧ x.catchType ≠ 0 ∧ x.handlerPc = tg ∧ Cond.classLink own x.catchType am_wn ∈ lw_all ∧ Cond.castable am_wn am_wn ∈ lw_tbl
def am_ST (mt : Nat → Option am_T) (own : String) (ini : Bool) (nL : Nat) (LS : List Nat) (rt : Option FieldType) (pc : Nat) (ai : am_I) : Prop :=
  (am_isInv ai.1 = false ∧ am_VI own ini nL LS rt pc ai) ∨ am_isInv ai.1 = true ∧ (ai.2.2.1 = [] ∨ (ai.2.1 = 3 ∧ ∃ n, ai.2.2.1 = [n] ∧ am_VT own ai.1 ai.2.2.2 n) ∨
  ∃ a b sg, ai.2.2.1 = a :: b :: sg ∧ ∀ q ∈ ai.2.2.2, ∃ T, mt q.2 = some T ∧ q.2 ≠ 0 ∧ T.2.2.2.2.1 = sg.reverse ∧ am_VQ own ai.1 ai.2.1 q.1 T)
/-- what a call of the method asks; the law's own method (number 0) is called by nobody -/
def am_MC (T : am_T) (pm : am_M) : Prop := plainFor T.1 = true ∧ am_CD T.1 T.2.1 pm.1 T.2.2.1 T.2.2.2.1 ∧ Cond.initialized T.1.cls ∈ lw_all ∧
  (T.1.cls ≠ "java/lang/invoke/MethodHandle" ∧ T.1.cls ≠ "java/lang/invoke/VarHandle" ∧ (parseMethodDescriptor T.1.desc).map (fun d => d.parameters.length) = some T.2.2.2.2.2.2) ∧ am_w T.2.2.2.2.1 ≤ pm.1 ∧ pm.1 ≤ 45 ∧ pm.2.1 ≤ 31 ∧ ∀ k ∈ am_lp 0 T.2.2.2.2.1, k ∈ T.2.2.2.2.2.1
def am_MV (mt : Nat → Option am_T) (i : Nat) (T : am_T) : Prop := ∃ pm : am_M, am_prog i = some pm ∧ (i ≠ 0 → am_MC T pm) ∧
  ∀ pc ai, pm.2.2 pc = some ai → decode T.2.1 pc = .ok (ai.1, ai.2.1) ∧ am_HC T.1.cls T.2.2.2.1 pc ai ∧ ∃ ini : Bool, (ini = true → T.1.name = "<init>") ∧ am_ST mt T.1.cls ini pm.1 T.2.2.2.2.2.1 T.2.2.1 pc ai
theorem am_inv_inl {vt : Bool} {o : List Nat} {t : List (Nat × Nat)} {fr fr' : am_F} {h h' : am_H} (he : am_inv vt fr h o t = some (Sum.inl (fr', h'))) : ∃ n, o = [n] ∧ am_nat n fr h t = some (Sum.inl (fr', h')) := by
  unfold am_inv at he
  split at he
  · exact ⟨_, rfl, he⟩
  · repeat' split at he
    all_goals first
      | (cases he; done)
      | (unfold am_go at he; split at he <;> cases he; done)
  · cases he
theorem am_spc_inl {o : List Nat} {t : List (Nat × Nat)} {fr fr' : am_F} {h h' : am_H} (he : am_spc fr h o t = some (Sum.inl (fr', h'))) : ∃ n, o = [n] ∧ am_nat n fr h t = some (Sum.inl (fr', h')) := by
  unfold am_spc at he
  split at he
  · exact ⟨_, rfl, he⟩
  · repeat' split at he
    all_goals first
      | (cases he; done)
      | (unfold am_go at he; split at he <;> cases he; done)
  · cases he
theorem am_isInv_inl {ai : am_I} {fr fr' : am_F} {h h' : am_H} (hi : am_isInv ai.1 = true) (he : am_exec ai fr h = some (Sum.inl (fr', h'))) : ∃ n, ai.2.2.1 = [n] ∧ am_nat n fr h ai.2.2.2 = some (Sum.inl (fr', h')) := by
  obtain ⟨ins, len, o, t⟩ := ai
  cases ins <;> first | (cases hi; done) | (simp only [am_exec] at he; first | exact am_inv_inl he | exact am_spc_inl he)
theorem am_exec_end {ai : am_I} {fr : am_F} {h h' : am_H} {o : am_O} (he : am_exec ai fr h = some (Sum.inr (Sum.inl (o, h')))) : h' = h := by
  obtain ⟨ins, len, ops, t⟩ := ai
  cases ins
  case ifCond cd off =>
    cases cd <;> simp only [am_exec, am_if1, am_if, am_jp, am_nx] at he <;> (repeat' split at he) <;> cases he
  case if_icmp cd off =>
    cases cd <;> simp only [am_exec, am_if2, am_if, am_jp, am_nx] at he <;> (repeat' split at he) <;> cases he
  case if_acmp cd off =>
    cases cd <;> simp only [am_exec, am_if, am_jp, am_nx] at he <;> (repeat' split at he) <;> cases he
  all_goals simp only [am_exec] at he
  all_goals first
    | (cases he; done)
    | exact (am_inv_noend he).elim
    | exact (am_spc_noend he).elim
    | (try simp only [am_nx, am_jp, am_sv, am_iload, am_lload, am_aload, am_istore, am_astore, am_lstore, am_ib, am_lb, am_iu, am_ldc, am_getf, am_putf, am_ald, am_iast, am_last, am_aast, am_newa, am_if] at he
       (repeat' split at he) <;> first | (cases he; done) | (cases he; rfl))
section SIMQ
variable {p : Program} {l : Launch} {e : Env} {R : Room} {s : State} {m : MethodId} {args : Array Value} {below : List Frame} {meth : Method} {c : Code} {cc : ByteArray} {Q : State → Prop} {nL N0 S0 : Nat} {LS : List Nat}
variable {pc : Nat} {ls : List (Option am_V)} {st : List am_V} {h h' : am_H} {fr' : am_F} {D : va_G} {dA : Nat → ClassId} {A : Nat → Prop} {own : String}
theorem sim_nat {ins : Instr} {t : List (Nat × Nat)} {n : Nat} (C : SC p s m args c cc own D dA) (hP : SP D dA A (hE h) s s.heap) (hml : c.maxLocals = nL) (V : am_VT own ins t n) (hf : 1 ≤ R.frames) (hl : 64 ≤ R.locals) (hN0 : N0 ≤ hN h) (hS0 : S0 ≤ hS h) (hrc : hN h' - N0 ≤ R.cells) (hrs : hS h' - S0 ≤ R.slots) (hd : decode cc pc = .ok (ins, 3))
    (he : am_nat n (pc, (ls, st)) h t = some (Sum.inl (fr', h'))) (kk : SW p l e R s m args below meth c Q nL N0 S0 LS (SGf D dA A s) fr' h') : SW p l e R s m args below meth c Q nL N0 S0 LS (SGf D dA A s) (pc, (ls, st)) h := by
  obtain ⟨k1, k2, k3, k4, k5, k6, k7, k8, k9⟩ := hP
  rcases V with ⟨rfl, idx, rfl, v1, v2, v3⟩ | ⟨rfl, idx, rfl, v1, v2, v3, v4⟩ | ⟨rfl, idx, rfl, v1, v2, v3, v4⟩ | ⟨rfl, idx, rfl, v1, v2, v3, v4⟩ | ⟨rfl, idx, rfl, v1, v2, v3, v4, v5, v6⟩
  · exact sw_nat0 C hml v1 v2 v3 hf hl hd he kk
  · exact sw_nat1 C k4 hml v1 v2 v3 v4 hf hl hd he kk
  · exact sw_nat2 C k8 k7 hml v1 v2 v3 v4 hf hl hd he kk
  · exact sw_nat3 C k8 hml v1 v2 v3 v4 hf hl hd he kk
  · exact sw_nat4 C k4 hml k9 hN0 hS0 hrc hrs v1 v2 v3 v4 v5 v6 hf hl hd he kk
end SIMQ
/-- a body's standing -/
def am_BD (p : Program) (R : Room) (s : State) (m : MethodId) (args : Array Value) (meth : Method) (c : Code) (T : am_T) (pm : am_M) (r : Nat) (D : va_G) (dA : Nat → ClassId) (A : Nat → Prop) : Prop :=
  SC p s m args c T.2.1 T.1.cls D dA ∧ meth.locks = false ∧ meth.sig.returnType = T.2.2.1 ∧ c.exceptionTable.toList = tableOf T.2.2.2.1 ∧ c.maxLocals = pm.1 ∧ meth.name = T.1.name ∧ 32 * r + pm.2.1 + 1 ≤ R.frames ∧ 64 * (32 * r + pm.2.1 + 1) ≤ R.locals
/-- a method's contract, out of its body's run -/
def am_RunOk (mt : Nat → Option am_T) (l : Launch) (n : Nat) : Prop := ∀ (r i : Nat) (fr : am_F) (h : am_H) (o : am_O) (h' : am_H), am_run am_prog n r i fr h = some (o, h') → ∀ (T : am_T) (pm : am_M), mt i = some T → am_prog i = some pm →
  ∀ (p : Program) (e : Env) (R : Room) (s : State) (m : MethodId) (args : Array Value) (below : List Frame) (meth : Method) (c : Code) (N0 S0 : Nat) (D : va_G) (dA : Nat → ClassId) (A : Nat → Prop), am_BD p R s m args meth c T pm r D dA A → SP D dA A (hE h) s s.heap → N0 ≤ hN h → S0 ≤ hS h → hN h' - N0 ≤ R.cells → hS h' - S0 ≤ R.slots →
  SW p l e R s m args below meth c (vx_MQ below (am_Qc D dA A o h') (am_XC D dA A o h') args s (hN h' - N0) (hS h' - S0) A) pm.1 N0 S0 T.2.2.2.2.2.1 (SGf D dA A s) fr h
theorem sim_met {mt : Nat → Option am_T} (HV : ∀ i T, mt i = some T → am_MV mt i T) {l : Launch} {n r i : Nat} (IH : am_RunOk mt l n) {vs : List am_V} {h h' : am_H} {o : am_O} {T : am_T} {pm : am_M} (hT : mt i = some T) (hi0 : i ≠ 0) (hpm : am_prog i = some pm) (htd : am_td T.2.2.2.2.1 vs) (hrun : am_run am_prog n r i (0, (am_pad pm.1 (am_slots vs), [])) h = some (o, h')) (D : va_G) (dA : Nat → ClassId) (A : Nat → Prop) :
    vx_Met l T.1 (am_ws T.1 T.2.1 pm.1 T.2.2.1 T.2.2.2.1) { frames := 32 * r + pm.2.1 + 1, cells := hN h' - hN h, slots := hS h' - hS h, locals := 64 * (32 * r + pm.2.1 + 1) } (am_Pc D dA A vs h) (am_Qc D dA A o h') (am_XC D dA A o h') (hN h' - hN h) (hS h' - hS h) A := by
  obtain ⟨pm9, hpm9, g0, -⟩ := HV i T hT
  cases hpm.symm.trans hpm9
  obtain ⟨g1, g2, g3, g4, g5, g6, g7, g8⟩ := g0 hi0
  obtain ⟨y, cc, rt, hh, sg, LS, nn⟩ := T
  dsimp only at *
  have body : ∀ (ws : List Cond) (p : Program) (e : Env) (s : State) (m : MethodId) (args : Array Value) (below : List Frame) (meth : Method) (c : Code) (s₁ : State), ws = am_ws y cc pm.1 rt hh → BodyLoose p l y (headSpec ws { frames := 32 * r + pm.2.1 + 1, cells := hN h' - hN h, slots := hS h' - hS h, locals := 64 * (32 * r + pm.2.1 + 1) }) cc pm.1 rt e s m args below meth c s₁ → c.maxLocals = pm.1 → c.exceptionTable.toList = tableOf hh → (∀ w ∈ lw_all, w.before args s = true) → am_Pc D dA A vs h args s →
      W p l e (headSpec ws { frames := 32 * r + pm.2.1 + 1, cells := hN h' - hN h, slots := hS h' - hS h, locals := 64 * (32 * r + pm.2.1 + 1) }).room s m args below meth c s.heap [] 0 0 (vx_MQ below (am_Qc D dA A o h') (am_XC D dA A o h') args s (hN h' - hN h) (hS h' - hS h) A) (entryFrame m args pm.1) := by
    intro ws p e s m args below meth c s₁ hws B hml htab hts hv
    obtain ⟨rfl, hSP, hSH⟩ := hv
    have hown : s.vm.findClass y.cls = some m.cls := findClass_of_methodNamed B.named
    have hnm : meth.name = y.name := (name_of_methodNamed B.named B.method).1
    have key := IH r i _ h o h' hrun _ pm hT hpm p e (headSpec ws { frames := 32 * r + pm.2.1 + 1, cells := hN h' - hN h, slots := hS h' - hS h, locals := 64 * (32 * r + pm.2.1 + 1) }).room s m _ below meth c (hN h) (hS h) D dA A
      ⟨⟨B.exec, B.bytes, hown, hts, hSP.2.1, hSP.1⟩, B.notSynchronized, B.returns, htab, hml, hnm, Nat.le_refl _, Nat.le_refl _⟩ hSP (Nat.le_refl _) (Nat.le_refl _) (Nat.le_refl _) (Nat.le_refl _)
    have k2 := key s.heap [] _ (sw_entry htd g5) (sw_entry_lg htd g8) ⟨hSH, va_S.rf⟩
    rw [Nat.sub_self, Nat.sub_self] at k2
    rw [lg_entry_eq]
    exact k2
  cases hh with
  | nil =>
    refine vx_ofW (cc := cc) (maxL := pm.1) (ret := rt) g1 rfl ?_
    intro p e s m args below meth c s₁ B hml hno hv
    have hts : ∀ w ∈ lw_all, w.before args s = true := fun w hw => atoms_spec (ws := ws_ y cc pm.1 rt) B.pre w (List.mem_cons_of_mem _ hw)
    refine body _ p e s m args below meth c s₁ rfl B hml ?_ hts hv
    cases hz : c.exceptionTable.toList with
    | nil => rfl
    | cons x xs => exact (hno x (by rw [hz]; exact List.mem_cons_self)).elim
  | cons x hh =>
    refine vx_ofWH (hh := x :: hh) (cc := cc) (maxL := pm.1) (ret := rt) g1 rfl ?_
    intro p e s m args below meth c s₁ B hml hv
    have hts : ∀ w ∈ lw_all, w.before args s = true := fun w hw => atoms_spec (ws := wsW_ y cc pm.1 rt (x :: hh)) B.pre w (List.mem_cons_of_mem _ hw)
    exact body _ p e s m args below meth c s₁ rfl B hml (vx_table (x := y) B (hts _ g2)) hts hv
