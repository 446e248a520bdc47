/-! THE SIMULATION, part N: ends of a body, calls read off, a method's entry -/
section SIMN
variable {p : Program} {l : Launch} {e : Env} {R : Room} {s : State} {m : MethodId} {args : Array Value} {below : List Frame} {meth : Method} {c : Code} {cc : ByteArray} {Q : State → Prop} {nL N0 S0 : Nat} {LS : List Nat}
variable {pc : Nat} {ls : List (Option am_V)} {st : List am_V} {h h' : am_H} {fr' : am_F} {D : va_G} {dA : Nat → ClassId} {A : Nat → Prop} {own : String}
theorem am_inv_noend {vt : Bool} {o : List Nat} {t : List (Nat × Nat)} {fr : am_F} {x : am_O × am_H} (he : am_inv vt fr h o t = some (Sum.inr (Sum.inl x))) : False := by
  unfold am_inv at he
  split at he
  · unfold am_nat am_nx at he
    repeat' split at he
    all_goals cases he
  · repeat' split at he
    all_goals first
      | (cases he; done)
      | (unfold am_go at he; split at he <;> cases he; done)
  · cases he
theorem am_spc_noend {o : List Nat} {t : List (Nat × Nat)} {fr : am_F} {x : am_O × am_H} (he : am_spc fr h o t = some (Sum.inr (Sum.inl x))) : False := by
  unfold am_spc at he
  split at he
  · unfold am_nat am_nx at he
    repeat' split at he
    all_goals cases he
  · repeat' split at he
    all_goals first
      | (cases he; done)
      | (unfold am_go at he; split at he <;> cases he; done)
  · cases he
theorem am_e_wr {H : Heap} {locs : List Loc} {q : Nat} (hKt : va_K D am_cls (am_tys dA) s) (hG : SGf D dA A s h H locs) (hk : hK h q = am_wrong) : ∃ ce : Cell, H[q]? = some ce ∧ ce.vm = .none ∧ s.vm.findClass am_wn = some ce.cls := by
  obtain ⟨-, hc⟩ := hG.1.2 q _ hk (by decide)
  rcases hc with ⟨-, -, cell, q9, z1, z2, z3, z4, z5, z6, -⟩ | ⟨z, -⟩ | ⟨z, -⟩
  · have hKn := hKt.1 _ q9 z1
    cases z1
    exact ⟨cell, z2, z6 rfl, by rw [z3]; exact hKn.2.1⟩
  · exact absurd z (by decide)
  · exact absurd z (by decide)
set_option maxHeartbeats 4000000 in
theorem sim_end {ai : am_I} {ini : Bool} {rt : Option FieldType} {o : am_O} {mc ms : Nat} (C : SC p s m args c cc own D dA) (hlocks : meth.locks = false) (hrt : meth.sig.returnType = rt) (hout : ai.1 = .athrow → ∀ x ∈ c.exceptionTable.toList, covers x pc = false) (V : am_VI own ini nL LS rt pc ai) (hc : hN h - N0 ≤ mc) (hs : hS h - S0 ≤ ms) (hd : decode cc pc = .ok (ai.1, ai.2.1))
    (he : am_exec ai (pc, (ls, st)) h = some (Sum.inr (Sum.inl (o, h')))) : h' = h ∧ SW p l e R s m args below meth c (vx_MQ below (am_Qc D dA A o h') (am_XC D dA A o h') args s mc ms A) nL N0 S0 LS (SGf D dA A s) (pc, (ls, st)) h := by
  obtain ⟨ins, len, ops, t⟩ := ai
  obtain ⟨hx, hb, hown, hts, hsx, hKt⟩ := id C
  obtain ⟨V0, Vl, V⟩ := V
  cases ins
  case ireturn =>
    obtain ⟨rfl, ty, rfl, rfl⟩ := V
    simp only [am_exec] at he
    split at he
    · rename_i t9 x hto
      simp only [List.cons.injEq, and_true] at hto
      subst hto
      split at he
      · rename_i hf
        simp only [Option.some.injEq, Sum.inr.injEq, Sum.inl.injEq, Prod.mk.injEq] at he
        obtain ⟨rfl, rfl⟩ := he
        refine ⟨rfl, fun H locs arr ha hg hG => ?_⟩
        exact sw_iret hx hb hlocks hG hc hs hd hrt (am_fit_ok rfl hf).1
      · cases he
    · cases he
  case lreturn =>
    obtain ⟨rfl, rfl⟩ := V
    simp only [am_exec] at he
    split at he
    · simp only [Option.some.injEq, Sum.inr.injEq, Sum.inl.injEq, Prod.mk.injEq] at he
      obtain ⟨rfl, rfl⟩ := he
      exact ⟨rfl, fun H locs arr ha hg hG => sw_lret hx hb hlocks hG hc hs hd hrt⟩
    · cases he
  case areturn =>
    obtain ⟨rfl, ty, rfl, hty⟩ := V
    simp only [am_exec] at he
    split at he
    · simp only [Option.some.injEq, Sum.inr.injEq, Sum.inl.injEq, Prod.mk.injEq] at he
      obtain ⟨rfl, rfl⟩ := he
      exact ⟨rfl, fun H locs arr ha hg hG => sw_aret hx hb hlocks hG hc hs hd hrt hty⟩
    · cases he
  case return_ =>
    obtain ⟨rfl, rfl⟩ := V
    simp only [am_exec] at he
    split at he
    · simp only [Option.some.injEq, Sum.inr.injEq, Sum.inl.injEq, Prod.mk.injEq] at he
      obtain ⟨rfl, rfl⟩ := he
      exact ⟨rfl, fun H locs arr ha hg hG => sw_vret hx hb hlocks hG hc hs hd hrt⟩
    · cases he
  case athrow =>
    obtain ⟨rfl, rfl⟩ : len = 1 ∧ ops = [] := V
    simp only [am_exec] at he
    split at he
    · rename_i q
      split at he
      · rename_i hk
        simp only [Option.some.injEq, Sum.inr.injEq, Sum.inl.injEq, Prod.mk.injEq] at he
        obtain ⟨rfl, rfl⟩ := he
        refine ⟨rfl, fun H locs arr ha hg hG => ?_⟩
        obtain ⟨ce, c1, c2, c3⟩ := am_e_wr hKt hG hk
        refine vx_athrow hx hb hd ?_
        have ho : ∀ x ∈ c.exceptionTable.toList, covers x pc = false := hout rfl
        exact vx_out ho hlocks c1 c2 c3 (fun t' ht hal => ⟨rfl, rfl, by rw [ht]; exact hG.1.moved hal, hG.2.F ht⟩) hG.2.2.2 hc hs
      · cases he
    · cases he
  case ifCond cd off =>
    cases cd <;> simp only [am_exec, am_if1, am_if, am_jp, am_nx] at he <;> (repeat' split at he) <;> cases he
  case if_icmp cd off =>
    cases cd <;> simp only [am_exec, am_if2, am_if, am_jp, am_nx] at he <;> (repeat' split at he) <;> cases he
  case if_acmp cd off =>
    cases cd <;> simp only [am_exec, am_if, am_jp, am_nx] at he <;> (repeat' split at he) <;> cases he
  all_goals simp only [am_exec] at he
  all_goals first
    | (cases he; done)
    | exact (am_inv_noend he).elim
    | exact (am_spc_noend he).elim
    | (simp only [am_nx, am_jp, am_sv, am_iload, am_lload, am_aload, am_istore, am_astore, am_lstore, am_ib, am_lb, am_iu, am_ldc, am_getf, am_putf, am_ald, am_iast, am_last, am_aast, am_newa, am_if] at he
       (repeat' split at he) <;> cases he)
end SIMN
