/-! THE SIMULATION, part I: the end of a body, and what stands behind a call -/
theorem SH.moved {D : va_G} {dA : Nat → ClassId} {A : Nat → Prop} {s t : State} {h : am_H} {H : Heap} (hvm : s.vm.Alike t.vm) (k : SH D dA A s h H) : SH D dA A t h H := by
  refine ⟨k.1, fun a c hk hc => ?_⟩
  obtain ⟨k1, k2⟩ := k.2 a c hk hc
  refine ⟨k1, ?_⟩
  rcases k2 with z | ⟨z1, z2, z3, z4, z5, z6⟩ | ⟨z1, cell, z2, z3, z4⟩
  · exact Or.inl z
  · refine Or.inr (Or.inl ⟨z1, z2, z3, z4, z5, fun q => ?_⟩)
    obtain ⟨cell, c1, c2, c3, c4, c5, c6⟩ := z6 q
    exact ⟨cell, c1, State.isArrayOf_alike hvm c2, c3, c4, c5, fun y => by rw [hvm.findClass]; exact c6 y⟩
  · exact Or.inr (Or.inr ⟨z1, cell, z2, z3, by rw [hvm.findClass]; exact z4⟩)
theorem am_rf_or (x : Option Nat) : va_rf x = .null ∨ ∃ a, va_rf x = .ref a := by
  cases x with
  | none => exact Or.inl rfl
  | some a => exact Or.inr ⟨a, rfl⟩
def am_wn : String := "ThrowRules$Wrong"
/-- a method's end, for a caller -/
def am_Qc (D : va_G) (dA : Nat → ClassId) (A : Nat → Prop) (o : am_O) (h' : am_H) : Array Value → State → Outcome → State → Prop := fun _ st oc t => (∃ v, o = Sum.inl v ∧ oc = .returned (v.map am_e)) ∧ SH D dA A t h' t.heap ∧ va_F A st t
def am_XC (D : va_G) (dA : Nat → ClassId) (A : Nat → Prop) (o : am_O) (h' : am_H) : Addr → String → State → State → Prop := fun q E st t => o = Sum.inr q ∧ E = am_wn ∧ SH D dA A t h' t.heap ∧ va_F A st t
section SIMI
variable {p : Program} {l : Launch} {e : Env} {R : Room} {s : State} {m : MethodId} {args : Array Value} {below : List Frame} {meth : Method} {c : Code} {cc : ByteArray} {Q : State → Prop} {nL N0 S0 : Nat} {LS : List Nat}
variable {pc : Nat} {ls : List (Option am_V)} {st : List am_V} {h h' : am_H} {fr' : am_F} {D : va_G} {dA : Nat → ClassId} {A : Nat → Prop} {own : String}
theorem sw_run {H : Heap} {locs : List Loc} {cells slots mc ms len : Nat} {arr : Array Slot} {st0 rest : List Value} {o : am_O} {Qa : State → Outcome → State → Prop} {XC : Addr → String → State → State → Prop} {free : Addr → Prop}
    (hr : vx_Run p l e R s m args below meth c H locs cells slots mc ms (F0 m pc arr st0) rest Qa XC free) (hQ : ∀ st₀ oc t, Qa st₀ oc t → (∃ v, o = Sum.inl v ∧ oc = .returned (v.map am_e)) ∧ SH D dA A t h' t.heap ∧ va_F A st₀ t) (hX : ∀ q E st₀ t, XC q E st₀ t → o = Sum.inr q ∧ E = am_wn ∧ SH D dA A t h' t.heap ∧ va_F A st₀ t) (hS : va_S A s.heap H locs) (hf : ∀ q, free q → A q)
    (k1 : ∀ v, o = Sum.inl v → ∀ (H' : Heap) (locs' : List Loc), SGf D dA A s h' H' locs' → W p l e R s m args below meth c H' locs' (cells + mc) (slots + ms) Q (F0 m (pc + 3) arr ((v.map am_e).toList ++ rest)))
    (k2 : ∀ q, o = Sum.inr q → ∀ (H' : Heap) (locs' : List Loc) (ce : Cell), SGf D dA A s h' H' locs' → H'[q]? = some ce → ce.vm = .none → s.vm.findClass am_wn = some ce.cls → vx_W p l e R s m args below meth c H' locs' (cells + mc) (slots + ms) Q (F0 m pc arr rest) q) : W p l e R s m args below meth c H locs cells slots Q (F0 m pc arr st0) := by
  intro T hT X
  rcases hr T hT X with ⟨v, st₀, t, T', L, h0, X', hL, e1, e2, hq, hgo⟩ | ⟨q, st₀, t, T', L, E, ce, h0, X', hL, e1, e2, hq, hce, hcv, hcl, hst⟩
  · obtain ⟨⟨v', ho, hv⟩, hsh, hF⟩ := hQ _ _ _ hq
    obtain ⟨-, -, hS'⟩ := vx_keep h0 e1 hS (fun _ _ z => z) hf hL hF
    cases hv
    have hal : t.vm.Alike s.vm := by rw [← e2]; exact X'.warmed.alike.symm
    obtain ⟨t', a1, b1⟩ := k1 v' ho T'.heap (locs ++ L) ⟨by rw [e1]; exact hsh.moved hal, hS'⟩ T' rfl X'
    exact ⟨t', hgo t' a1, b1⟩
  · obtain ⟨ho, rfl, hsh, hF⟩ := hX _ _ _ _ hq
    obtain ⟨-, -, hS'⟩ := vx_keep h0 e1 hS (fun _ _ z => z) hf hL hF
    have hal : t.vm.Alike s.vm := by rw [← e2]; exact X'.warmed.alike.symm
    obtain ⟨t', a1, b1⟩ := k2 q ho T'.heap (locs ++ L) ce ⟨by rw [e1]; exact hsh.moved hal, hS'⟩ (by rw [e1]; exact hce) hcv hcl T' rfl X'
    exact ⟨t', hst.trans a1, b1⟩
/-- the ends: int, long, reference, none; a throw that no handler here takes -/
theorem sw_iret {mc ms : Nat} {x : Int32} {ty : FieldType} {H : Heap} {locs : List Loc} {cells slots : Nat} {arr : Array Slot} (hx : p.tables.exec = Jvm.exec) (hb : c.code = cc) (hlocks : meth.locks = false) (hG : SGf D dA A s h H locs) (h1 : cells ≤ mc) (h2 : slots ≤ ms) (hd : decode cc pc = .ok (.ireturn, 1)) (hr : meth.sig.returnType = some ty) (hn : narrow ty (.int x) = .int x) :
    W p l e R s m args below meth c H locs cells slots (vx_MQ below (am_Qc D dA A (Sum.inl (some (vI x))) h) (am_XC D dA A (Sum.inl (some (vI x))) h) args s mc ms A) (F0 m pc arr [.int x]) := by
  refine vx_ret (W.widen h1 h2 ?_)
  exact W.zret hx hb hr hn (fun t ht hW => ⟨⟨some (vI x), rfl, rfl⟩, by rw [ht]; exact hG.1.moved hW.alike, hG.2.F ht⟩) hG.2.2.2 hd hlocks
theorem sw_aret {mc ms : Nat} {x : Option Nat} {ty : FieldType} {H : Heap} {locs : List Loc} {cells slots : Nat} {arr : Array Slot} (hx : p.tables.exec = Jvm.exec) (hb : c.code = cc) (hlocks : meth.locks = false) (hG : SGf D dA A s h H locs) (h1 : cells ≤ mc) (h2 : slots ≤ ms) (hd : decode cc pc = .ok (.areturn, 1)) (hr : meth.sig.returnType = some ty) (hrt : (∃ n, ty = .object n) ∨ ∃ t, ty = .array t) :
    W p l e R s m args below meth c H locs cells slots (vx_MQ below (am_Qc D dA A (Sum.inl (some (vR x))) h) (am_XC D dA A (Sum.inl (some (vR x))) h) args s mc ms A) (F0 m pc arr [va_rf x]) := by
  refine vx_ret (W.widen h1 h2 ?_)
  exact W.aret hx hb hr hrt (am_rf_or x) (fun t ht hW => ⟨⟨some (vR x), rfl, rfl⟩, by rw [ht]; exact hG.1.moved hW.alike, hG.2.F ht⟩) hG.2.2.2 hd hlocks
theorem sw_vret {mc ms : Nat} {H : Heap} {locs : List Loc} {cells slots : Nat} {arr : Array Slot} (hx : p.tables.exec = Jvm.exec) (hb : c.code = cc) (hlocks : meth.locks = false) (hG : SGf D dA A s h H locs) (h1 : cells ≤ mc) (h2 : slots ≤ ms) (hd : decode cc pc = .ok (.return_, 1)) (hr : meth.sig.returnType = none) :
    W p l e R s m args below meth c H locs cells slots (vx_MQ below (am_Qc D dA A (Sum.inl none) h) (am_XC D dA A (Sum.inl none) h) args s mc ms A) (F0 m pc arr []) := by
  refine vx_ret (W.widen h1 h2 ?_)
  exact W.vret hx hb hr (fun t ht hW => ⟨⟨none, rfl, rfl⟩, by rw [ht]; exact hG.1.moved hW.alike, hG.2.F ht⟩) hG.2.2.2 hd hlocks
theorem sw_lret {mc ms : Nat} {x : Int64} {H : Heap} {locs : List Loc} {cells slots : Nat} {arr : Array Slot} (hx : p.tables.exec = Jvm.exec) (hb : c.code = cc) (hlocks : meth.locks = false) (hG : SGf D dA A s h H locs) (h1 : cells ≤ mc) (h2 : slots ≤ ms) (hd : decode cc pc = .ok (.lreturn, 1)) (hr : meth.sig.returnType = some .long) :
    W p l e R s m args below meth c H locs cells slots (vx_MQ below (am_Qc D dA A (Sum.inl (some (vL x))) h) (am_XC D dA A (Sum.inl (some (vL x))) h) args s mc ms A) (F0 m pc arr [.long x]) := by
  refine vx_ret (W.widen h1 h2 ?_)
  exact W.lret hx hb hr (fun t ht hW => ⟨⟨some (vL x), rfl, rfl⟩, by rw [ht]; exact hG.1.moved hW.alike, hG.2.F ht⟩) hG.2.2.2 hd hlocks
end SIMI
