/-! THE SIMULATION, part H: constants, statics, casts -/
/-- the constants' addresses and the statics' values at a state: strings by class and entry, mirrors, statics -/
def SEf (E : Nat → Nat) (A : Nat → Prop) (U : State) (H : Heap) : Prop :=
  (∀ q ∈ am_strs, vk_R q.1 q.2.1 q.2.2.2 (E q.2.2.1) U) ∧ (∀ q ∈ am_mirs, va_Mi q.1 (E q.2) U) ∧
  (∀ q ∈ am_stI, va_Z q.1 q.2.1 q.2.2.1 (.int (Int32.ofNat q.2.2.2)) A U H) ∧ (∀ q ∈ am_stR, va_Z q.1 q.2.1 q.2.2.1 (.ref (E q.2.2.2)) A U H) ∧ (∀ q ∈ am_stO, va_Z q.1 q.2.1 q.2.2.1 (va_rf (am_opt (E q.2.2.2))) A U H) ∧
  (∀ q ∈ am_ncs, va_Nc q.1 q.2 U) ∧ E 33 < H.size ∧ ¬ A (E 33) ∧ am_us U (E 33) H
section SIMH
variable {p : Program} {l : Launch} {e : Env} {R : Room} {s : State} {m : MethodId} {args : Array Value} {below : List Frame} {meth : Method} {c : Code} {cc : ByteArray} {Q : State → Prop} {nL N0 S0 : Nat} {LS : List Nat}
variable {pc : Nat} {ls : List (Option am_V)} {st : List am_V} {h h' : am_H} {fr' : am_F} {D : va_G} {dA : Nat → ClassId} {A : Nat → Prop} {own : String}
/-- a site of ldc: an int, a String, a Class object, a float -/
def am_VL (own : String) (idx : Nat) (o : List Nat) : Prop := (∃ v, o = [0, v] ∧ Cond.constant own idx (Int32.ofNat v) ∈ lw_all) ∨ (∃ e tx, o = [1, e] ∧ (own, (idx, (e, tx))) ∈ am_strs) ∨ (∃ e C, o = [1, e] ∧ (C, e) ∈ am_mirs ∧ Cond.classLink own idx C ∈ lw_all) ∨ (∃ v, o = [3, v] ∧ Cond.constantFloat own idx (UInt32.ofNat v) ∈ lw_all) ∨ (o = [])
theorem sw_ldc {idx : Nat} {o : List Nat} (C : SC p s m args c cc own D dA) (hE : SEf (hE h) A s s.heap) (V : am_VL own idx o) (hd : decode cc pc = .ok (.ldc idx, 2))
    (he : am_ldc (pc, (ls, st)) h 2 o = some (Sum.inl (fr', h'))) (kk : SW p l e R s m args below meth c Q nL N0 S0 LS (SGf D dA A s) fr' h') : SW p l e R s m args below meth c Q nL N0 S0 LS (SGf D dA A s) (pc, (ls, st)) h := by
  obtain ⟨hx, hb, hown, hts, hsx, hKt⟩ := C
  rcases V with ⟨v, rfl, hv⟩ | ⟨k, tx, rfl, hv⟩ | ⟨k, T, rfl, hv, hl⟩ | ⟨v, rfl, hv⟩ | rfl
  · exact sw_push (fun H locs cells slots arr kw => lv_ldc hx hb hown (hts _ hv) hd kw) he kk
  · exact sw_push (fun H locs cells slots arr kw => va_ldcS hx hb hown (hE.1 _ hv) hd kw) he kk
  · exact sw_push (fun H locs cells slots arr kw => va_ldcM hx hb hown (hts _ hl) (hE.2.1 _ hv) hd kw) he kk
  · exact sw_push (fun H locs cells slots arr kw => lv_ldcf hx hb hown (hts _ hv) hd kw) he kk
  · cases he
theorem am_ldcwS {T : State} {locs : List Loc} {cells slots : Nat} (X : Stand p l e R s m args below meth c T locs cells slots) (hexec : p.tables.exec = Jvm.exec) {text : String} {index : Nat} {a : Addr} (hown : s.vm.findClass own = some m.cls)
    (hconst : (Cond.stringRef own index text).before args s = true) (hev : (Term.string own index).eval args s none [] s = some (.ref a)) {g : JFrame} (hg : g.method = m) (hdg : decode c.code g.pc = .ok (.ldc_w index, 3)) :
    ∀ target, Steps p.tables e below (T.setTop { g with pc := g.pc + 3, stack := .ref a :: g.stack }) target → Steps p.tables e below (T.setTop g) target := by
  obtain ⟨k, cf, i, a', hk, hcf, hcp, -, hr, hev'⟩ := Cond.stringRef_spec hown hconst
  cases hev.symm.trans hev'
  obtain ⟨k', hk', he⟩ := X.warmed.alike.2.2 _ _ hk
  have hr' : k'.resolved[index]? = some (some (.string a)) := by
    rcases X.warmed.entry hk hk' index with h | ⟨h, -⟩
    · rw [h]; exact hr
    · rw [hr] at h; cases h
  intro target hrest
  subst hg
  jvm_step X.here [hexec, hdg, ldc_w.wp_string (e := e) (s := T) (f := g) X.here.top hk' (by rw [he]; exact hcf) hcp hr']
  exact hrest
theorem sw_ldcwS {idx k : Nat} {tx : String} (C : SC p s m args c cc own D dA) (hE : SEf (hE h) A s s.heap) (hv : (own, (idx, (k, tx))) ∈ am_strs) (hd : decode cc pc = .ok (.ldc_w idx, 3))
    (he : am_ldc (pc, (ls, st)) h 3 [1, k] = some (Sum.inl (fr', h'))) (kk : SW p l e R s m args below meth c Q nL N0 S0 LS (SGf D dA A s) fr' h') : SW p l e R s m args below meth c Q nL N0 S0 LS (SGf D dA A s) (pc, (ls, st)) h := by
  obtain ⟨hx, hb, hown, hts, hsx, hKt⟩ := C
  have hZ := hE.1 _ hv
  refine sw_push (fun H locs cells slots arr kw => ?_) he kk
  intro T hT X
  obtain ⟨t, a1, b1⟩ := kw T hT X
  exact ⟨t, am_ldcwS X hx hown (text := tx) hZ.1 hZ.2 (g := F0 m pc arr (st.map am_e)) rfl (by rw [hb]; exact hd) t a1, b1⟩
theorem sw_ldcw {idx v : Nat} (C : SC p s m args c cc own D dA) (hv : Cond.constant own idx (Int32.ofNat v) ∈ lw_all) (hd : decode cc pc = .ok (.ldc_w idx, 3))
    (he : am_ldc (pc, (ls, st)) h 3 [0, v] = some (Sum.inl (fr', h'))) (kk : SW p l e R s m args below meth c Q nL N0 S0 LS (SGf D dA A s) fr' h') : SW p l e R s m args below meth c Q nL N0 S0 LS (SGf D dA A s) (pc, (ls, st)) h := by
  obtain ⟨hx, hb, hown, hts, hsx, hKt⟩ := C
  exact sw_push (fun H locs cells slots arr kw => lv_ldcw hx hb hown (hts _ hv) hd kw) he kk
theorem sw_ldc2 {idx v : Nat} (C : SC p s m args c cc own D dA) (hv : Cond.constantLong own idx (Int64.ofNat v) ∈ lw_all) (hd : decode cc pc = .ok (.ldc2_w idx, 3))
    (he : am_nx (pc, (ls, st)) h 3 (Sum.inr (Sum.inl (Int64.ofNat v)) :: st) = some (Sum.inl (fr', h'))) (kk : SW p l e R s m args below meth c Q nL N0 S0 LS (SGf D dA A s) fr' h') : SW p l e R s m args below meth c Q nL N0 S0 LS (SGf D dA A s) (pc, (ls, st)) h := by
  obtain ⟨hx, hb, hown, hts, hsx, hKt⟩ := C
  exact sw_push (fun H locs cells slots arr kw => lv_ldc2 hx hb hown (hts _ hv) hd kw) he kk
/-- a site of getstatic -/
def am_VS (own : String) (idx : Nat) (o : List Nat) : Prop := ∃ C n d, Cond.fieldLink own idx C n d ∈ lw_all ∧ ((∃ v, o = [0, v] ∧ (C, (n, (d, v))) ∈ am_stI) ∨ (∃ k, o = [1, k] ∧ (C, (n, (d, k))) ∈ am_stR) ∨ ∃ k, o = [2, k] ∧ (C, (n, (d, k))) ∈ am_stO)
theorem sw_gets {idx : Nat} {o : List Nat} (C : SC p s m args c cc own D dA) (hE : SEf (hE h) A s s.heap) (V : am_VS own idx o) (hd : decode cc pc = .ok (.getstatic idx, 3))
    (he : am_ldc (pc, (ls, st)) h 3 o = some (Sum.inl (fr', h'))) (kk : SW p l e R s m args below meth c Q nL N0 S0 LS (SGf D dA A s) fr' h') : SW p l e R s m args below meth c Q nL N0 S0 LS (SGf D dA A s) (pc, (ls, st)) h := by
  obtain ⟨hx, hb, hown, hts, hsx, hKt⟩ := C
  obtain ⟨T, n, d, hl, V⟩ := V
  have row : ∀ v : Value, va_Z T n d v A s s.heap → ∀ (H : Heap) (locs : List Loc) (cells slots : Nat) (arr : Array Slot) (rest : List Value), va_S A s.heap H locs → W p l e R s m args below meth c H locs cells slots Q (F0 m (pc + 3) arr (v :: rest)) → W p l e R s m args below meth c H locs cells slots Q (F0 m pc arr rest) := fun v hZ H locs cells slots arr rest hS kw =>
    va_gets hx hb hZ hS hown (hts _ hl) (fun _ q => q) hd kw
  rcases V with ⟨v, rfl, hv⟩ | ⟨k, rfl, hv⟩ | ⟨k, rfl, hv⟩
  · obtain ⟨rfl, rfl⟩ := am_nx_some he
    intro H locs arr ha hg hG
    exact row _ (hE.2.2.1 _ hv) H locs _ _ arr _ hG.2 (kk H locs arr ha hg hG)
  · obtain ⟨rfl, rfl⟩ := am_nx_some he
    intro H locs arr ha hg hG
    exact row _ (hE.2.2.2.1 _ hv) H locs _ _ arr _ hG.2 (kk H locs arr ha hg hG)
  · obtain ⟨rfl, rfl⟩ := am_nx_some he
    intro H locs arr ha hg hG
    exact row _ (hE.2.2.2.2.1 _ hv) H locs _ _ arr _ hG.2 (kk H locs arr ha hg hG)
/-- the class of a cell, by its kind's name -/
def am_kn (ck : Nat) : String := if ck = 23 then "jdk/internal/misc/Unsafe" else if ck < 40 then (am_cls.getD ck (RX4, (TX4, 4))).1 else if ck ≤ 45 then "[B" else "[Ljava/lang/Object;"
theorem sc_kn {H : Heap} {locs : List Loc} {a : Nat} (hKt : va_K D am_cls (am_tys dA) s) (hG : SGf D dA A s h H locs) (hk : (0 < hK h a ∧ hK h a < 40) ∨ hK h a = 44 ∨ hK h a = 45 ∨ hK h a = 46 ∨ hK h a = 47) : ∃ cell : Cell, H[a]? = some cell ∧ cell.vm.isStatics = false ∧ s.vm.findClass (am_kn (hK h a)) = some cell.cls := by
  rcases hk with ⟨h1, h2⟩ | hk
  · obtain ⟨cv, kv, C, v1, v2, v3, v4, v5, v6⟩ := sc_obj hKt hG h1 h2
    refine ⟨cv, v1, v2, ?_⟩
    rcases v6 with ⟨z, rfl⟩ | ⟨q, q1, rfl, q3⟩
    · rw [z]; exact v3
    · by_cases z : hK h a = 23
      · rcases (hG.1.2 a _ rfl (by omega)).2 with ⟨-, y, -⟩ | ⟨y, -⟩ | ⟨-, cell, y1, y2, y3⟩
        · exact absurd z y
        · omega
        · rw [z]
          cases v1.symm.trans y1
          exact y3
      · unfold am_kn
        rw [if_neg z, if_pos h2, List.getD_eq_getElem?_getD, q1]
        exact v3
  · have h40 : 40 ≤ hK h a ∧ hK h a ≤ 49 := by omega
    obtain ⟨-, hc⟩ := hG.1.2 a _ rfl (by omega)
    rcases hc with ⟨z, -⟩ | ⟨-, -, z1, z2, z3, z4⟩ | ⟨z, -⟩
    · omega
    · rcases hk with hk | hk | hk | hk
      · rw [hk] at z3 ⊢
        exact ⟨_, z3 rfl, rfl, (hKt.2 3 _ rfl).2⟩
      · rw [hk] at z4 ⊢
        obtain ⟨cell, c1, ⟨c2, -⟩, c3, c4, c5, c6⟩ := z4 rfl
        refine ⟨cell, c1, ?_, c6 (Or.inl rfl)⟩
        cases hv : cell.vm <;> first | rfl | exact absurd hv (c2 _)
      · rw [hk] at z3 ⊢
        obtain ⟨kA, comp, k1, k2, k3, k4⟩ := (hKt.2 4 _ rfl).2
        exact ⟨_, z3 rfl, rfl, k4⟩
      · rw [hk] at z4 ⊢
        obtain ⟨cell, c1, ⟨c2, -⟩, c3, c4, c5, c6⟩ := z4 rfl
        refine ⟨cell, c1, ?_, c6 (Or.inr rfl)⟩
        cases hv : cell.vm <;> first | rfl | exact absurd hv (c2 _)
    · omega
/-- the one object of the kind 23, told by its address -/
theorem sc_u {H : Heap} {locs : List Loc} (hE' : SEf (hE h) A s s.heap) (hG : SGf D dA A s h H locs) : ∃ cell : Cell, H[hE h 33]? = some cell ∧ cell.vm.isStatics = false ∧ s.vm.findClass (am_kn 23) = some cell.cls := by
  obtain ⟨-, -, -, -, -, -, k1, k2, cell, c1, c2, c3⟩ := hE'
  exact ⟨cell, by rw [hG.2.2.1 _ k1 k2]; exact c1, c2, c3⟩
/-- a site of checkcast or instanceof: the class, and the kinds that are of it -/
def am_VK (own : String) (idx : Nat) (o : List Nat) (nm : String) : Prop := Cond.classLink own idx nm ∈ lw_all ∧ ∀ ck ∈ o, ((0 < ck ∧ ck < 40) ∨ ck = 44 ∨ ck = 45 ∨ ck = 46 ∨ ck = 47) ∧ (am_kn ck = nm ∨ Cond.castable (am_kn ck) nm ∈ lw_tbl)
theorem sw_cast {idx : Nat} {o : List Nat} {nm : String} (C : SC p s m args c cc own D dA) (hB : SB s) (V : o = [] ∨ am_VK own idx o nm) (hd : decode cc pc = .ok (.checkcast idx, 3)) {len : Nat} {t : List (Nat × Nat)}
    (he : am_exec (.checkcast idx, (len, (o, t))) (pc, (ls, st)) h = some (Sum.inl (fr', h'))) (kk : SW p l e R s m args below meth c Q nL N0 S0 LS (SGf D dA A s) fr' h') : SW p l e R s m args below meth c Q nL N0 S0 LS (SGf D dA A s) (pc, (ls, st)) h := by
  obtain ⟨hx, hb, hown, hts, hsx, hKt⟩ := C
  simp only [am_exec] at he
  split at he
  · exact sw_push (fun H locs cells slots arr kw => lv_castN hx hb hd kw) he kk
  · rename_i a st'
    split at he
    · rename_i hk
      obtain ⟨rfl, rfl⟩ := am_nx_some he
      rcases V with rfl | ⟨v1, v2⟩
      · cases hk
      · obtain ⟨v3, v4⟩ := v2 _ hk
        intro H locs arr ha hg hG
        have hr := sc_kn hKt hG v3
        rcases v4 with v4 | v4
        · rw [v4] at hr
          exact va_castE hx hb hown (hts _ v1) hr hd (kk H locs arr ha hg hG)
        · exact va_castY hx hb hown (hts _ v1) (hB.2.2 _ _ v4) hr hd (kk H locs arr ha hg hG)
    · cases he
  · cases he
theorem sw_inst {idx : Nat} {o : List Nat} {nm : String} {t : List (Nat × Nat)} (C : SC p s m args c cc own D dA) (hB : SB s) (hE : SEf (hE h) A s s.heap) (V : am_VK own idx o nm) (Vn : ∀ q ∈ t, 0 < q.1 ∧ q.1 < 40 ∧ (am_kn q.1, nm) ∈ am_ncs) (hd : decode cc pc = .ok (.instanceof idx, 3)) {len : Nat}
    (he : am_exec (.instanceof idx, (len, (o, t))) (pc, (ls, st)) h = some (Sum.inl (fr', h'))) (kk : SW p l e R s m args below meth c Q nL N0 S0 LS (SGf D dA A s) fr' h') : SW p l e R s m args below meth c Q nL N0 S0 LS (SGf D dA A s) (pc, (ls, st)) h := by
  obtain ⟨hx, hb, hown, hts, hsx, hKt⟩ := C
  simp only [am_exec] at he
  split at he
  · exact sw_push (fun H locs cells slots arr kw => lv_instN hx hb hd kw) he kk
  · rename_i a st'
    split at he
    · rename_i hk
      obtain ⟨rfl, rfl⟩ := am_nx_some he
      obtain ⟨v1, v2⟩ := V
      obtain ⟨v3, v4⟩ := v2 _ hk
      intro H locs arr ha hg hG
      have hr := sc_kn hKt hG v3
      rcases v4 with v4 | v4
      · rw [v4] at hr
        exact va_instE hx hb hown (hts _ v1) hr hd (kk H locs arr ha hg hG)
      · exact va_instY hx hb hown (hts _ v1) (hB.2.2 _ _ v4) hr hd (kk H locs arr ha hg hG)
    · split at he
      · rename_i m' hl
        obtain ⟨rfl, rfl⟩ := am_nx_some he
        have hmem : ∀ (t : List (Nat × Nat)) (k m' : Nat), am_look k t = some m' → ∃ q ∈ t, q.1 = k := by
          intro t
          induction t with
          | nil => intro k m' q; cases q
          | cons x t ih =>
            intro k m' q
            obtain ⟨x1, x2⟩ := x
            unfold am_look at q
            split at q
            · rename_i z
              exact ⟨_, List.mem_cons_self, z.symm⟩
            · obtain ⟨y, y1, y2⟩ := ih k m' q
              exact ⟨y, List.mem_cons_of_mem _ y1, y2⟩
        obtain ⟨q, q1, q2⟩ := hmem t _ _ hl
        obtain ⟨g1, g2, g3⟩ := Vn q q1
        rw [q2] at g1 g2 g3
        intro H locs arr ha hg hG
        exact va_instNo hx hb hown (hts _ V.1) (hE.2.2.2.2.2.1 _ g3) (sc_kn hKt hG (Or.inl ⟨g1, g2⟩)) hd (kk H locs arr ha hg hG)
      · cases he
  · cases he
end SIMH
