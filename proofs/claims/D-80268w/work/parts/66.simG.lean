/-! THE SIMULATION, part G: references into arrays, new arrays -/
section SIMG
variable {p : Program} {l : Launch} {e : Env} {R : Room} {s : State} {m : MethodId} {args : Array Value} {below : List Frame} {meth : Method} {c : Code} {cc : ByteArray} {Q : State → Prop} {nL N0 S0 : Nat} {LS : List Nat}
variable {pc : Nat} {ls : List (Option am_V)} {st : List am_V} {h h' : am_H} {fr' : am_F} {D : va_G} {dA : Nat → ClassId} {A : Nat → Prop} {own : String}
/-- an object's cell and class -/
theorem sc_obj {H : Heap} {locs : List Loc} {b : Nat} (hKt : va_K D am_cls (am_tys dA) s) (hG : SGf D dA A s h H locs) (h1 : 0 < hK h b) (h2 : hK h b < 40) : ∃ (cv : Cell) (kv : Class) (C : String), H[b]? = some cv ∧ cv.vm.isStatics = false ∧ s.vm.findClass C = some cv.cls ∧ s.vm.classes[cv.cls]? = some kv ∧ Cond.castable C "java/lang/Object" ∈ lw_tbl ∧ ((hK h b = 23 ∧ C = "jdk/internal/misc/Unsafe") ∨ ∃ q, am_cls[hK h b]? = some q ∧ C = q.1 ∧ cv.cls = D.1 (hK h b)) := by
  obtain ⟨-, hc⟩ := hG.1.2 b _ rfl (by omega)
  rcases hc with ⟨-, -, cell, q, z1, z2, z3, z4, z5, -⟩ | ⟨z, -⟩ | ⟨z0, cell, z1, z2, z3⟩
  · obtain ⟨-, hfc, kC, hkC, -⟩ := hKt.1 _ q z1
    exact ⟨cell, kC, q.1, z2, z5, by rw [z3]; exact hfc, by rw [z3]; exact hkC, am_cls_cast _ q z1, Or.inr ⟨q, z1, rfl, z3⟩⟩
  · omega
  · obtain ⟨kC, hkC, -⟩ := Vm.findClass_spec z3
    exact ⟨cell, kC, _, z1, z2, z3, hkC, am_cast_us, Or.inl ⟨z0, rfl⟩⟩
theorem sc_cast {C T : String} {cC t : ClassId} (hB : SB s) (h : Cond.castable C T ∈ lw_tbl) (h1 : s.vm.findClass C = some cC) (h2 : s.vm.findClass T = some t) : s.vm.assignable cC t = true := by
  obtain ⟨c0, t1, f1, f2, f3⟩ := Cond.castable_spec (va_Nw.use (A := (#[] : Array Value)) rfl (hB.2.2 C T h))
  cases h1.symm.trans f1
  cases h2.symm.trans f2
  exact f3
theorem am_el_putR {a ck i : Nat} {x : Option Nat} (hel : am_el h ck a) (hx : ∀ b, x = some b → 0 < hK h b ∧ hK h b < 40) : am_el (putR h a i x) ck a := by
  intro j hj
  obtain ⟨g1, g2, g3⟩ := hel j hj
  refine ⟨g1, g2, fun q b => ?_⟩
  rw [hR_putR]
  by_cases z : j = i
  · rw [if_pos ⟨rfl, z⟩]
    exact hx b
  · rw [if_neg (fun y => z y.2)]
    exact g3 q b
theorem sw_aast (hx : p.tables.exec = Jvm.exec) (hb : c.code = cc) (hKt : va_K D am_cls (am_tys dA) s) (hB : SB s) (hd : decode cc pc = .ok (.aastore, 1))
    (he : am_aast (pc, (ls, st)) h = some (Sum.inl (fr', h'))) (kk : SW p l e R s m args below meth c Q nL N0 S0 LS (SGf D dA A s) fr' h') : SW p l e R s m args below meth c Q nL N0 S0 LS (SGf D dA A s) (pc, (ls, st)) h := by
  have hav : ∀ (a i ck : Nat) (x : Option Nat), 46 ≤ ck → ∀ j, am_av (putR h a i x) ck a j = updV (am_av h ck a) i (va_rf x) j := by
    intro a i ck x h46 j
    simp only [am_av, if_neg (show ¬ ck = 42 by omega), if_pos h46, updV, hR_putR]
    by_cases q : j = i
    · rw [if_pos q, if_pos ⟨trivial, q⟩]
    · rw [if_neg q, if_neg (fun z => q z.2)]
  unfold am_aast at he
  split at he
  · rename_i i a st' hs
    have hs : st = vR none :: vI i :: vR (some a) :: st' := hs
    subst hs
    split at he
    · rename_i hk
      split at he
      · cases he
      · rename_i hin
        obtain ⟨rfl, rfl⟩ := am_nx_some he
        intro H locs arr ha hg hG
        have h46 : 46 ≤ hK h a ∧ hK h a ≤ 49 ∧ am_ro (hK h a) = false ∧ ∃ C, am_aty (hK h a) = .object C := by
          rcases hk with hk | hk <;> rw [hk]
          · exact ⟨by decide, by decide, rfl, _, rfl⟩
          · exact ⟨by decide, by decide, rfl, _, rfl⟩
        obtain ⟨C, hC⟩ := h46.2.2.2
        obtain ⟨c0, ce, cell, c1, c2, c3, c4, c5, c6⟩ := sc_arr hKt hG rfl (by omega) h46.2.1
        obtain ⟨c7, c8⟩ := c6 h46.2.2.1
        rw [hC] at c2
        refine va_WaastN hx hb c1 c2 c3 (by rw [c4]; exact hin) rfl rfl hd fun H' e1 e2 e3 => ?_
        exact kk H' _ arr ha hg (sc_ast hG rfl (by omega) h46.2.1 c7 c8 h46.2.2.1 c0 e1 e2 e3 rfl (fun _ => rfl) (fun _ => rfl) (fun _ _ _ => rfl) (fun _ _ _ => rfl) (fun b hb j => by rw [hR_putR, if_neg (fun z => hb z.1)]) (hav a _ _ none h46.1) (am_el_putR ce (fun b q => by cases q)))
    · cases he
  · rename_i b i a st' hs
    have hs : st = vR (some b) :: vI i :: vR (some a) :: st' := hs
    subst hs
    split at he
    · rename_i hk
      split at he
      · cases he
      · rename_i hin
        obtain ⟨rfl, rfl⟩ := am_nx_some he
        intro H locs arr ha hg hG
        have hb1 : 0 < hK h b ∧ hK h b < 40 := by rcases hk with hk | hk <;> omega
        have h46 : 46 ≤ hK h a ∧ hK h a ≤ 49 ∧ am_ro (hK h a) = false := by
          rcases hk with ⟨hk, -⟩ | ⟨hk, -⟩ <;> rw [hk] <;> exact ⟨by decide, by decide, rfl⟩
        obtain ⟨c0, ce, cell, c1, c2, c3, c4, c5, c6⟩ := sc_arr hKt hG rfl (by omega) h46.2.1
        obtain ⟨c7, c8⟩ := c6 h46.2.2
        obtain ⟨cv, kv, C, v1, v2, v3, v4, v5, v6⟩ := sc_obj hKt hG hb1.1 hb1.2
        have hcm : ∃ (kA kE : Class) (comp : ClassId) (E : String), s.vm.classes[dA (hK h a)]? = some kA ∧ kA.kind = .array comp (.object E) ∧ s.vm.classes[comp]? = some kE ∧ s.vm.assignable cv.cls comp = true := by
          rcases hk with ⟨hk, -⟩ | ⟨hk, hk2, hk3⟩
          · obtain ⟨kA, comp, k1, k2, k3, -⟩ := (hKt.2 4 _ rfl).2
            obtain ⟨kE, hkE, -⟩ := Vm.findClass_spec k3
            rw [hk]
            exact ⟨kA, kE, comp, _, k1, k2, hkE, sc_cast hB v5 v3 k3⟩
          · obtain ⟨kA, comp, k1, k2, k3, -⟩ := (hKt.2 5 _ rfl).2
            obtain ⟨kE, hkE, -⟩ := Vm.findClass_spec k3
            rw [hk]
            refine ⟨kA, kE, comp, _, k1, k2, hkE, ?_⟩
            rcases v6 with ⟨z, -⟩ | ⟨q, q1, rfl, q3⟩
            · omega
            · have hz : hK h b = 12 ∨ hK h b = 13 := by omega
              rcases hz with hz | hz
              · rw [hz] at q1
                cases q1
                rw [Option.some.inj (v3.symm.trans k3)]
                exact va_asg _ _
              · rw [hz] at q1
                cases q1
                exact sc_cast hB am_cast_tn v3 k3
        obtain ⟨kA, kE, comp, E, k1, k2, k3, k4⟩ := hcm
        have h0 : ¬ i < 0 := fun q => hin (Or.inl q)
        have hlt : i.toNatClampNeg < hL h a := Nat.not_le.mp fun q => hin (Or.inr q)
        refine W.aast hx hb c1 (fun q z => by rw [c8] at z; cases z) c3 (by rw [c8]; exact k1) k2 rfl k3 ⟨h0, by rw [c4]; exact hlt⟩ v1 (fun q z => by rw [z] at v2; cases v2) v4 k4 rfl rfl hd fun H' e1 e2 e3 => ?_
        exact kk H' _ arr ha hg (sc_ast hG rfl (by omega) h46.2.1 c7 c8 h46.2.2 c0 e1 e2 e3 rfl (fun _ => rfl) (fun _ => rfl) (fun _ _ _ => rfl) (fun _ _ _ => rfl) (fun b' hb' j => by rw [hR_putR, if_neg (fun z => hb' z.1)]) (hav a _ _ (some b) h46.1) (am_el_putR ce (fun b' q => by cases q; exact hb1)))
    · cases he
  · cases he
/-- an array is made: the heap's side -/
theorem sc_newa {H H' : Heap} {locs : List Loc} {ck n : Nat} (hG : SGf D dA A s h H locs) (hAs : ∀ q : Nat, s.heap.size ≤ q → A q) (h1 : 40 ≤ ck) (h2 : ck ≤ 49) (hro : am_ro ck = false) (hn : n ≤ 65536) (dv : Value) (hdv : dv = if ck = 42 then .long 0 else if 46 ≤ ck then .null else .int 0) (e1 : H'[H.size]? = some (arrV (dA ck) n (fun _ => dv))) (z1 : H'.size = H.size + 1) (o1 : ∀ q, q < H.size → H'[q]? = H[q]?) : SGf D dA A s (newC h ck n) H' locs := by
  have e9 : hN h = H.size := hG.1.1
  refine ⟨hG.1.new (by omega) (hAs _ hG.2.1) z1 o1 (Or.inr ⟨h1, h2, ?_⟩), ⟨Nat.le_trans hG.2.1 (by omega), fun x h1 h2 => (o1 x (Nat.lt_of_lt_of_le h1 hG.2.1)).trans (hG.2.2.1 x h1 h2), hG.2.2.2⟩⟩
  have hl : hL (newC h ck n) H.size = n := by rw [hL_newC, e9, if_pos rfl]
  refine ⟨by rw [hl]; omega, fun j _ => ?_, fun _ => ?_, fun q => by rw [hro] at q; cases q⟩
  · rw [hI_newC, hR_newC, e9, if_pos rfl, if_pos rfl]
    exact ⟨fun _ => rfl, fun _ => rfl, fun _ b q => by cases q⟩
  · rw [e1, hl]
    congr 2
    funext j
    rw [hdv]
    unfold am_av
    rw [hI_newC, hJ_newC, hR_newC, e9, if_pos rfl, if_pos rfl, if_pos rfl]
    rfl
theorem sw_newarray {at_ : ArrayType} {ck : Nat} (hx : p.tables.exec = Jvm.exec) (hb : c.code = cc) (hts : ∀ w ∈ lw_all, w.before args s = true) (hKt : va_K D am_cls (am_tys dA) s) (hck : (ck = 40 ∧ at_ = .int) ∨ (ck = 42 ∧ at_ = .long) ∨ (ck = 43 ∧ at_ = .boolean) ∨ (ck = 44 ∧ at_ = .byte)) (hac : Cond.arrayClass (newarray.typeOf at_) ∈ lw_all) (hAs : ∀ q : Nat, s.heap.size ≤ q → A q) (hN0 : N0 ≤ hN h) (hS0 : S0 ≤ hS h) (hrc : hN h' - N0 ≤ R.cells) (hrs : hS h' - S0 ≤ R.slots) (hd : decode cc pc = .ok (.newarray at_, 2))
    (he : am_newa (pc, (ls, st)) h 2 [ck] = some (Sum.inl (fr', h'))) (kk : SW p l e R s m args below meth c Q nL N0 S0 LS (SGf D dA A s) fr' h') : SW p l e R s m args below meth c Q nL N0 S0 LS (SGf D dA A s) (pc, (ls, st)) h := by
  unfold am_newa at he
  split at he
  · rename_i ck n st' e1 hs
    have hs : st = vI n :: st' := hs
    subst hs
    simp only [List.cons.injEq, and_true] at e1
    subst e1
    split at he
    · cases he
    · rename_i hn
      obtain ⟨rfl, rfl⟩ := am_nx_some he
      rw [hN_newC] at hrc
      rw [hS_newC] at hrs
      intro H locs arr ha hg hG
      have hn0 : ¬ n < 0 := fun q => hn (Or.inl q)
      have hn1 : n.toNatClampNeg ≤ 65536 := Nat.not_lt.mp fun q => hn (Or.inr q)
      have h4 : 40 ≤ ck ∧ ck ≤ 49 ∧ am_ro ck = false ∧ n.toNatClampNeg * componentBytes (newarray.typeOf at_) ≤ 536870912 ∧ defaultValue (newarray.typeOf at_) = (if ck = 42 then Value.long 0 else if 46 ≤ ck then Value.null else Value.int 0) ∧ am_aty ck = newarray.typeOf at_ := by
        rcases hck with ⟨rfl, rfl⟩ | ⟨rfl, rfl⟩ | ⟨rfl, rfl⟩ | ⟨rfl, rfl⟩
        · exact ⟨by decide, by decide, rfl, by show _ * 4 ≤ _; omega, rfl, rfl⟩
        · exact ⟨by decide, by decide, rfl, by show _ * 8 ≤ _; omega, rfl, rfl⟩
        · exact ⟨by decide, by decide, rfl, by show _ * 1 ≤ _; omega, rfl, rfl⟩
        · exact ⟨by decide, by decide, rfl, by show _ * 1 ≤ _; omega, rfl, rfl⟩
      refine va_newaK hx hb (hts _ hac) rfl hd rfl hn0 rfl h4.2.2.2.1 (by omega) (by omega) rfl fun H' cA g1 g2 g3 _ g5 => ?_
      have hcA : cA = dA ck := by
        obtain ⟨t, ht⟩ := am_tys_at dA h4.1 h4.2.1 h4.2.2.1
        have h9 := (hKt.2 t _ ht).2
        rw [h4.2.2.2.2.2] at h9
        have h9 : s.vm.findClass ("[" ++ (newarray.typeOf at_).toString) = some (dA ck) := by
          rcases hck with ⟨rfl, rfl⟩ | ⟨rfl, rfl⟩ | ⟨rfl, rfl⟩ | ⟨rfl, rfl⟩ <;> exact h9
        exact Option.some.inj (g5.symm.trans h9)
      subst hcA
      have hk1 := kk H' locs arr ha hg (sc_newa hG hAs h4.1 h4.2.1 h4.2.2.1 hn1 _ h4.2.2.2.2.1 g1 g2 g3)
      rw [hN_newC, hS_newC] at hk1
      rw [show hN h - N0 + 1 = hN h + 1 - N0 by omega, show hS h - S0 + n.toNatClampNeg = hS h + n.toNatClampNeg - S0 by omega]
      have e9 : hN h = H.size := hG.1.1
      rw [e9] at hk1 ⊢
      exact hk1
  · cases he
theorem sw_anewarray {idx ck : Nat} {C : String} (hx : p.tables.exec = Jvm.exec) (hb : c.code = cc) (hown : s.vm.findClass own = some m.cls) (hts : ∀ w ∈ lw_all, w.before args s = true) (hKt : va_K D am_cls (am_tys dA) s) (hB : SB s) (hck : (ck = 46 ∧ C = "java/lang/Object") ∨ (ck = 48 ∧ C = "java/util/HashMap$Node")) (hlk : Cond.classLink own idx C ∈ lw_all) (hAs : ∀ q : Nat, s.heap.size ≤ q → A q) (hN0 : N0 ≤ hN h) (hS0 : S0 ≤ hS h) (hrc : hN h' - N0 ≤ R.cells) (hrs : hS h' - S0 ≤ R.slots) (hd : decode cc pc = .ok (.anewarray idx, 3))
    (he : am_newa (pc, (ls, st)) h 3 [ck] = some (Sum.inl (fr', h'))) (kk : SW p l e R s m args below meth c Q nL N0 S0 LS (SGf D dA A s) fr' h') : SW p l e R s m args below meth c Q nL N0 S0 LS (SGf D dA A s) (pc, (ls, st)) h := by
  unfold am_newa at he
  split at he
  · rename_i ck n st' e1 hs
    have hs : st = vI n :: st' := hs
    subst hs
    simp only [List.cons.injEq, and_true] at e1
    subst e1
    split at he
    · cases he
    · rename_i hn
      obtain ⟨rfl, rfl⟩ := am_nx_some he
      rw [hN_newC] at hrc
      rw [hS_newC] at hrs
      intro H locs arr ha hg hG
      have hn0 : ¬ n < 0 := fun q => hn (Or.inl q)
      have hn1 : n.toNatClampNeg ≤ 65536 := Nat.not_lt.mp fun q => hn (Or.inr q)
      have h4 : 40 ≤ ck ∧ ck ≤ 49 ∧ am_ro ck = false ∧ Value.null = (if ck = 42 then Value.long 0 else if 46 ≤ ck then Value.null else Value.int 0) ∧ va_AO C s ∧ ∃ t : Nat, (am_tys dA)[t]? = some (dA ck, FieldType.object C) := by
        rcases hck with ⟨rfl, rfl⟩ | ⟨rfl, rfl⟩
        · exact ⟨by decide, by decide, rfl, rfl, hB.1, 4, rfl⟩
        · exact ⟨by decide, by decide, rfl, rfl, hB.2.1, 5, rfl⟩
      obtain ⟨t, ht⟩ := h4.2.2.2.2.2
      refine W.anew hx hb hown (hts _ hlk) (va_AO.use h4.2.2.2.2.1) rfl hd rfl hn0 (by omega) (by omega) (by omega) fun cA kA comp f1 f2 f3 f4 => ?_
      obtain ⟨kA', comp', k1, k2, k3, k4⟩ := (hKt.2 t _ ht).2
      have hcA : cA = dA ck := Option.some.inj (f1.symm.trans k4)
      subst hcA
      have hk1 := kk (H.push ({ cls := dA ck, slots := Array.replicate n.toNatClampNeg .null, vm := .none } : Cell)) locs arr ha hg (sc_newa hG hAs h4.1 h4.2.1 h4.2.2.1 hn1 .null h4.2.2.2.1 (by rw [Array.getElem?_push_size, ← arrV_new]) (by rw [Array.size_push]) (fun q hq => by rw [Array.getElem?_push, if_neg (Nat.ne_of_lt hq)]))
      rw [hN_newC, hS_newC] at hk1
      rw [show hN h - N0 + 1 = hN h + 1 - N0 by omega, show hS h - S0 + n.toNatClampNeg = hS h + n.toNatClampNeg - S0 by omega]
      have e9 : hN h = H.size := hG.1.1
      rw [e9] at hk1 ⊢
      exact hk1
  · cases he
end SIMG
