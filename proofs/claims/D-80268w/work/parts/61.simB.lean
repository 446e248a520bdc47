/-! THE SIMULATION, part B: the instructions that leave the heap alone, in one theorem -/
section SIMB
variable {p : Program} {l : Launch} {e : Env} {R : Room} {s : State} {m : MethodId} {args : Array Value} {below : List Frame} {meth : Method} {c : Code} {cc : ByteArray} {Q : State → Prop} {nL N0 S0 : Nat} {LS : List Nat} {G : am_H → Heap → List Loc → Prop}
variable {pc : Nat} {ls : List (Option am_V)} {st : List am_V} {h h' : am_H} {fr' : am_F}
def am_len (ins : Instr) : Option Nat := match ins with
  | .aconst_null => some 1
  | .iconst _ => some 1
  | .bipush _ => some 2
  | .sipush _ => some 3
  | .lconst _ => some 1
  | .iload _ => some 2
  | .iload_n _ => some 1
  | .lload _ => some 2
  | .lload_n _ => some 1
  | .aload _ => some 2
  | .aload_n _ => some 1
  | .istore _ => some 2
  | .istore_n _ => some 1
  | .lstore _ => some 2
  | .lstore_n _ => some 1
  | .astore _ => some 2
  | .astore_n _ => some 1
  | .iinc _ _ => some 3
  | .goto _ => some 3
  | .ifCond _ _ => some 3
  | .if_icmp _ _ => some 3
  | .if_acmp _ _ => some 3
  | .ifnull _ => some 3
  | .ifnonnull _ => some 3
  | .pop => some 1
  | .dup => some 1
  | .dup_x1 => some 1
  | .dup_x2 => some 1
  | .dup2 => some 1
  | .iadd => some 1
  | .isub => some 1
  | .imul => some 1
  | .iand => some 1
  | .ior => some 1
  | .ixor => some 1
  | .ishl => some 1
  | .ishr => some 1
  | .iushr => some 1
  | .idiv => some 1
  | .irem => some 1
  | .lrem => some 1
  | .ineg => some 1
  | .ladd => some 1
  | .lmul => some 1
  | .lor => some 1
  | .land => some 1
  | .lxor => some 1
  | .lshl => some 1
  | .lushr => some 1
  | .lcmp => some 1
  | .i2l => some 1
  | .i2b => some 1
  | .i2c => some 1
  | .l2i => some 1
  | _ => none
set_option maxHeartbeats 4000000 in
theorem sim_pure {ins : Instr} {len : Nat} {o : List Nat} {t : List (Nat × Nat)} (hp : am_pure ins = true) (hx : p.tables.exec = Jvm.exec) (hb : c.code = cc) (hd : decode cc pc = .ok (ins, len))
    (h0 : am_ok0 nL LS pc (ins, (len, (o, t)))) (hlen : ∀ k, am_len ins = some k → len = k)
    (he : am_exec (ins, (len, (o, t))) (pc, (ls, st)) h = some (Sum.inl (fr', h'))) (k : SW p l e R s m args below meth c Q nL N0 S0 LS G fr' h') : SW p l e R s m args below meth c Q nL N0 S0 LS G (pc, (ls, st)) h := by
  cases ins with
  | aconst_null =>
    have hl1 := hlen _ rfl
    subst hl1
    exact sw_push (fun H locs cells slots arr kk => lv_null hx hb hd kk) he k
  | iconst n =>
    have hl1 := hlen _ rfl
    subst hl1
    exact sw_push (fun H locs cells slots arr kk => lv_iconst hx hb hd rfl kk) he k
  | bipush n =>
    have hl1 := hlen _ rfl
    subst hl1
    exact sw_push (fun H locs cells slots arr kk => lv_bipush hx hb hd rfl kk) he k
  | sipush n =>
    have hl1 := hlen _ rfl
    subst hl1
    exact sw_push (fun H locs cells slots arr kk => lv_sipush hx hb hd rfl kk) he k
  | lconst n =>
    have hl1 := hlen _ rfl
    subst hl1
    exact sw_push (fun H locs cells slots arr kk => lv_lconst hx hb hd rfl kk) he k
  | iload i =>
    have hl1 := hlen _ rfl
    subst hl1
    exact sw_iload (fun H locs cells slots arr x rest q kk => lv_iload hx hb hd q kk) he k
  | iload_n i =>
    have hl1 := hlen _ rfl
    subst hl1
    exact sw_iload (fun H locs cells slots arr x rest q kk => lv_iload_n hx hb hd rfl q kk) he k
  | lload i =>
    have hl1 := hlen _ rfl
    subst hl1
    exact sw_lload (fun H locs cells slots arr x rest q kk => lv_lload hx hb hd q kk) he k
  | lload_n i =>
    have hl1 := hlen _ rfl
    subst hl1
    exact sw_lload (fun H locs cells slots arr x rest q kk => lv_lload_n hx hb hd rfl q kk) he k
  | aload i =>
    have hl1 := hlen _ rfl
    subst hl1
    exact sw_aload (fun H locs cells slots arr x rest q kk => lw9_aload hx hb hd q kk) he k
  | aload_n i =>
    have hl1 := hlen _ rfl
    subst hl1
    exact sw_aload (fun H locs cells slots arr x rest q kk => lw9_aload_n hx hb hd q kk) he k
  | istore i =>
    have hl1 := hlen _ rfl
    subst hl1
    exact sw_istore h0.1 h0.2 (fun H locs cells slots arr arr' x rest q kk => lw9_istore hx hb hd q kk) he k
  | istore_n i =>
    have hl1 := hlen _ rfl
    subst hl1
    exact sw_istore h0.1 h0.2 (fun H locs cells slots arr arr' x rest q kk => lw9_istore_n hx hb hd q kk) he k
  | astore i =>
    have hl1 := hlen _ rfl
    subst hl1
    exact sw_astore h0.1 h0.2 (fun H locs cells slots arr arr' x rest q kk => lw9_astore hx hb hd q kk) he k
  | astore_n i =>
    have hl1 := hlen _ rfl
    subst hl1
    exact sw_astore h0.1 h0.2 (fun H locs cells slots arr arr' x rest q kk => lw9_astore_n hx hb hd q kk) he k
  | lstore i =>
    have hl1 := hlen _ rfl
    subst hl1
    exact sw_lstore h0.1 h0.2.1 h0.2.2 (fun H locs cells slots arr arr' x rest q kk => lw9_lstore hx hb hd q kk) he k
  | lstore_n i =>
    have hl1 := hlen _ rfl
    subst hl1
    exact sw_lstore h0.1 h0.2.1 h0.2.2 (fun H locs cells slots arr arr' x rest q kk => lw9_lstore_n hx hb hd q kk) he k
  | iinc i n =>
    have hl1 := hlen _ rfl
    subst hl1
    simp only [am_exec] at he
    split at he
    · rename_i x hx1
      obtain ⟨rfl, rfl⟩ := am_sv_some he
      intro H locs arr ha hg hG
      obtain ⟨arr', e1, h1, h2⟩ := am_store1 (v := vI (x + Int32.ofInt n)) (o := []) ha hg h0.1 rfl (fun _ => h0.2)
      exact lw9_iinc hx hb hd (ha.2.2 i _ hx1) e1 (k H locs arr' h1 h2 hG)
    · cases he
  | pop =>
    have hl1 := hlen _ rfl
    subst hl1
    simp only [am_exec] at he
    split at he
    · rename_i v st'
      split at he
      · rename_i hc
        exact sw_push (fun H locs cells slots arr kk => lv_pop hx hb hd (am_e_c1 hc) kk) he k
      · cases he
    · cases he
  | dup =>
    have hl1 := hlen _ rfl
    subst hl1
    simp only [am_exec] at he
    split at he
    · rename_i v st'
      split at he
      · rename_i hc
        exact sw_push (fun H locs cells slots arr kk => lv_dup hx hb hd (am_e_c1 hc) kk) he k
      · cases he
    · cases he
  | dup_x1 =>
    have hl1 := hlen _ rfl
    subst hl1
    simp only [am_exec] at he
    split at he
    · rename_i v w st'
      split at he
      · rename_i hc
        exact sw_push (fun H locs cells slots arr kk => lv_dup_x1 hx hb hd (am_e_c1 hc.1) (am_e_c1 hc.2) kk) he k
      · cases he
    · cases he
  | dup_x2 =>
    have hl1 := hlen _ rfl
    subst hl1
    simp only [am_exec] at he
    split at he
    · rename_i v w u st'
      split at he
      · rename_i hc
        exact sw_push (fun H locs cells slots arr kk => lv_dup_x2 hx hb hd (am_e_c1 hc.1) (am_e_c1 hc.2.1) (am_e_c1 hc.2.2) kk) he k
      · cases he
    · cases he
  | dup2 =>
    have hl1 := hlen _ rfl
    subst hl1
    simp only [am_exec] at he
    split at he
    · rename_i y st'
      exact sw_push (fun H locs cells slots arr kk => lv_dup2_2 hx hb hd rfl kk) he k
    · rename_i v w st' _
      split at he
      · rename_i hc
        exact sw_push (fun H locs cells slots arr kk => lv_dup2_11 hx hb hd (am_e_c1 hc.1) (am_e_c1 hc.2) kk) he k
      · cases he
    · cases he
  | iadd =>
    have hl1 := hlen _ rfl
    subst hl1
    exact sw_ib (fun H locs cells slots arr x y rest kk => lv_iadd hx hb hd kk) he k
  | isub =>
    have hl1 := hlen _ rfl
    subst hl1
    exact sw_ib (fun H locs cells slots arr x y rest kk => lv_isub hx hb hd kk) he k
  | imul =>
    have hl1 := hlen _ rfl
    subst hl1
    exact sw_ib (fun H locs cells slots arr x y rest kk => lv_imul hx hb hd kk) he k
  | iand =>
    have hl1 := hlen _ rfl
    subst hl1
    exact sw_ib (fun H locs cells slots arr x y rest kk => lv_iand hx hb hd kk) he k
  | ior =>
    have hl1 := hlen _ rfl
    subst hl1
    exact sw_ib (fun H locs cells slots arr x y rest kk => lv_ior hx hb hd kk) he k
  | ixor =>
    have hl1 := hlen _ rfl
    subst hl1
    exact sw_ib (fun H locs cells slots arr x y rest kk => lv_ixor hx hb hd kk) he k
  | ishl =>
    have hl1 := hlen _ rfl
    subst hl1
    exact sw_ib (fun H locs cells slots arr x y rest kk => lv_ishl hx hb hd kk) he k
  | ishr =>
    have hl1 := hlen _ rfl
    subst hl1
    exact sw_ib (fun H locs cells slots arr x y rest kk => lv_ishr hx hb hd kk) he k
  | iushr =>
    have hl1 := hlen _ rfl
    subst hl1
    exact sw_ib (fun H locs cells slots arr x y rest kk => lv_iushr hx hb hd rfl kk) he k
  | ladd =>
    have hl1 := hlen _ rfl
    subst hl1
    exact sw_lb (fun H locs cells slots arr x y rest kk => lv_ladd hx hb hd kk) he k
  | lmul =>
    have hl1 := hlen _ rfl
    subst hl1
    exact sw_lb (fun H locs cells slots arr x y rest kk => lv_lmul hx hb hd kk) he k
  | lor =>
    have hl1 := hlen _ rfl
    subst hl1
    exact sw_lb (fun H locs cells slots arr x y rest kk => lv_lor hx hb hd kk) he k
  | land =>
    have hl1 := hlen _ rfl
    subst hl1
    exact sw_lb (fun H locs cells slots arr x y rest kk => lv_land hx hb hd kk) he k
  | lxor =>
    have hl1 := hlen _ rfl
    subst hl1
    exact sw_lb (fun H locs cells slots arr x y rest kk => lv_lxor hx hb hd kk) he k
  | ineg =>
    have hl1 := hlen _ rfl
    subst hl1
    exact sw_iu (f := fun x => Sum.inl (-x)) (fun H locs cells slots arr x rest kk => lv_ineg hx hb hd kk) he k
  | i2l =>
    have hl1 := hlen _ rfl
    subst hl1
    exact sw_iu (f := fun x => Sum.inr (Sum.inl x.toInt64)) (fun H locs cells slots arr x rest kk => lv_i2l hx hb hd rfl kk) he k
  | i2b =>
    have hl1 := hlen _ rfl
    subst hl1
    exact sw_iu (f := fun x => Sum.inl x.toInt8.toInt32) (fun H locs cells slots arr x rest kk => lv_i2b hx hb hd rfl kk) he k
  | i2c =>
    have hl1 := hlen _ rfl
    subst hl1
    exact sw_iu (f := fun x => Sum.inl (x.toUInt32 % 65536).toInt32) (fun H locs cells slots arr x rest kk => lv_i2c hx hb hd rfl kk) he k
  | idiv =>
    have hl1 := hlen _ rfl
    subst hl1
    simp only [am_exec] at he
    split at he
    · rename_i y x st'
      split at he
      · cases he
      · rename_i hc
        exact sw_push (fun H locs cells slots arr kk => lv_idiv hx hb hd hc kk) he k
    · cases he
  | irem =>
    have hl1 := hlen _ rfl
    subst hl1
    simp only [am_exec] at he
    split at he
    · rename_i y x st'
      split at he
      · cases he
      · rename_i hc
        exact sw_push (fun H locs cells slots arr kk => lv_irem hx hb hd hc kk) he k
    · cases he
  | lrem =>
    have hl1 := hlen _ rfl
    subst hl1
    simp only [am_exec] at he
    split at he
    · rename_i y x st'
      split at he
      · cases he
      · rename_i hc
        exact sw_push (fun H locs cells slots arr kk => lv_lrem hx hb hd hc kk) he k
    · cases he
  | lshl =>
    have hl1 := hlen _ rfl
    subst hl1
    simp only [am_exec] at he
    split at he
    · rename_i y x st'
      exact sw_push (fun H locs cells slots arr kk => lv_lshl hx hb hd rfl kk) he k
    · cases he
  | lushr =>
    have hl1 := hlen _ rfl
    subst hl1
    simp only [am_exec] at he
    split at he
    · rename_i y x st'
      exact sw_push (fun H locs cells slots arr kk => lv_lushr hx hb hd rfl kk) he k
    · cases he
  | lcmp =>
    have hl1 := hlen _ rfl
    subst hl1
    simp only [am_exec] at he
    split at he
    · rename_i y x st'
      exact sw_push (fun H locs cells slots arr kk => W.lcmp hx hb hd kk) he k
    · cases he
  | l2i =>
    have hl1 := hlen _ rfl
    subst hl1
    simp only [am_exec] at he
    split at he
    · rename_i x st'
      exact sw_push (fun H locs cells slots arr kk => lv_l2i hx hb hd rfl kk) he k
    · cases he
  | goto off =>
    have hl1 := hlen _ rfl
    subst hl1
    simp only [am_exec] at he
    split at he
    · rename_i t1 ts
      obtain ⟨rfl, rfl⟩ := am_jp_some he
      intro H locs arr ha hg hG
      exact lv_goto hx hb hd (h0 t1 List.mem_cons_self) (k H locs arr ha hg hG)
    · cases he
  | ifCond cd off =>
    have hl1 := hlen _ rfl
    subst hl1
    cases cd with
    | eq => exact sw_if1 off h0 (fun tgt ht H locs cells slots arr x rest kt kf => lv_if_eq hx hb hd ht kt kf) he k
    | lt => exact sw_if1 off h0 (fun tgt ht H locs cells slots arr x rest kt kf => lv_if_lt hx hb hd ht kt kf) he k
    | ge => exact sw_if1 off h0 (fun tgt ht H locs cells slots arr x rest kt kf => lv_if_ge hx hb hd ht kt kf) he k
    | gt => exact sw_if1 off h0 (fun tgt ht H locs cells slots arr x rest kt kf => lv_if_gt hx hb hd ht kt kf) he k
    | le => exact sw_if1 off h0 (fun tgt ht H locs cells slots arr x rest kt kf => lv_if_le hx hb hd ht kt kf) he k
    | ne => exact sw_if1 off h0 (fun tgt ht H locs cells slots arr x rest kt kf => lv_if_ne hx hb hd ht kt (fun q => kf (fun z => z q))) he k
  | if_icmp cd off =>
    have hl1 := hlen _ rfl
    subst hl1
    cases cd with
    | eq => exact sw_if2 off h0 (fun tgt ht H locs cells slots arr x y rest kt kf => lv_icmp_eq hx hb hd ht kt kf) he k
    | lt => exact sw_if2 off h0 (fun tgt ht H locs cells slots arr x y rest kt kf => lv_icmp_lt hx hb hd ht kt kf) he k
    | ge => exact sw_if2 off h0 (fun tgt ht H locs cells slots arr x y rest kt kf => lv_icmp_ge hx hb hd ht kt kf) he k
    | gt => exact sw_if2 off h0 (fun tgt ht H locs cells slots arr x y rest kt kf => lv_icmp_gt hx hb hd ht kt kf) he k
    | le => exact sw_if2 off h0 (fun tgt ht H locs cells slots arr x y rest kt kf => lv_icmp_le hx hb hd ht kt kf) he k
    | ne => exact sw_if2 off h0 (fun tgt ht H locs cells slots arr x y rest kt kf => lv_icmp_ne hx hb hd ht kt (fun q => kf (fun z => z q))) he k
  | ifnull off =>
    have hl1 := hlen _ rfl
    subst hl1
    simp only [am_exec] at he
    split at he
    · rename_i x st'
      exact sw_if off h0 (fun tgt ht H locs cells slots arr kt kf => lw9_acmp_eq (y := none) hx hb hd ht kt kf) he k
    · cases he
  | ifnonnull off =>
    have hl1 := hlen _ rfl
    subst hl1
    simp only [am_exec] at he
    split at he
    · rename_i x st'
      exact sw_if off h0 (fun tgt ht H locs cells slots arr kt kf => lw9_nonnull hx hb hd ht kt kf) he k
    · cases he
  | if_acmp cd off =>
    have hl1 := hlen _ rfl
    subst hl1
    cases cd with
    | eq =>
      simp only [am_exec] at he
      split at he
      · rename_i y x st'
        exact sw_if off h0 (fun tgt ht H locs cells slots arr kt kf => lv_acmp_eq hx hb hd ht kt kf) he k
      · cases he
    | ne =>
      simp only [am_exec] at he
      split at he
      · rename_i y x st'
        exact sw_if off h0 (fun tgt ht H locs cells slots arr kt kf => lv_acmp_ne hx hb hd ht kt (fun q => kf (fun z => z q))) he k
      · cases he
  | tableswitch dflt lo hi offs =>
    simp only [am_exec] at he
    split at he
    · rename_i d ds x st'
      obtain ⟨rfl, rfl⟩ := am_jp_some he
      obtain ⟨g1, g2⟩ := h0 d List.mem_cons_self
      intro H locs arr ha hg hG
      by_cases q : x.toInt < lo ∨ hi < x.toInt
      · exact lv_tableOut hx hb hd q (g1 x q) (k H locs arr ha hg hG)
      · obtain ⟨off, e1, e2⟩ := g2 x (fun z => q (Or.inl z)) (fun z => q (Or.inr z))
        exact lv_tableIn hx hb hd (fun z => q (Or.inl z)) (fun z => q (Or.inr z)) e1 e2 (k H locs arr ha hg hG)
    · cases he
  | lookupswitch dflt ps =>
    simp only [am_exec] at he
    split at he
    · rename_i d ds x st'
      obtain ⟨rfl, rfl⟩ := am_jp_some he
      intro H locs arr ha hg hG
      exact lv_lookup hx hb hd h0.1 rfl (h0.2 d List.mem_cons_self x) (k H locs arr ha hg hG)
    · cases he
  | _ => cases hp
end SIMB
