/-! THE SIMULATION, part J: Object.<init>, arraycopy, getClass, clone -/
section SIMJ
variable {p : Program} {l : Launch} {e : Env} {R : Room} {s : State} {m : MethodId} {args : Array Value} {below : List Frame} {meth : Method} {c : Code} {cc : ByteArray} {Q : State → Prop} {nL N0 S0 : Nat} {LS : List Nat}
variable {pc : Nat} {ls : List (Option am_V)} {st : List am_V} {h h' : am_H} {fr' : am_F} {D : va_G} {dA : Nat → ClassId} {A : Nat → Prop} {own : String}
theorem am_nn {z : Int32} (hz : 0 ≤ z) : z.toInt = (z.toNatClampNeg : Int) := by
  have hz0 : (0 : Int) ≤ z.toInt := by simpa using Int32.le_iff_toInt_le.mp hz
  show z.toInt = ((z.toInt.toNat : Nat) : Int)
  omega
/-- the machine's arraycopy into an array that is known whole -/
theorem sc_acopy {α : Type} {mk : α → Value} {f g : Nat → α} {H : Heap} {locs : List Loc} {cells slots idx a b n0 n1 : Nat} {cs : Cell} {c1 : ClassId} {ks kd : Class} {sComp dComp : ClassId} {sT dT : FieldType} {sp dp n : Int32} {arr : Array Slot} {rest : List Value}
    (hx : p.tables.exec = Jvm.exec) (hb : c.code = cc) (hml : c.maxLocals = arr.size) (hown : s.vm.findClass own = some m.cls) (hlink : (Cond.methodLink own idx arraycopyName).before args s = true) (hnat : (Cond.native arraycopyName).before args s = true) (hstat : (Cond.static arraycopyName).before args s = true) (hini : (Cond.initialized "java/lang/System").before args s = true)
    (hs : H[a]? = some cs) (hso : ∀ k, cs.vm ≠ .statics k) (hsk : cs.vm ≠ .unknown) (hsz : cs.slots.size = n0) (hsv : ∀ j, j < n0 → cs.slots[j]? = some (mk (f j))) (hks : s.vm.classes[cs.cls]? = some ks) (hskd : ks.kind = .array sComp sT)
    (hd : H[b]? = some (arrV c1 n1 (fun j => mk (g j)))) (hkd : s.vm.classes[c1]? = some kd) (hdkd : kd.kind = .array dComp dT) (hty : ((refKind sT != refKind dT) || (!refKind sT && sT != dT)) = false)
    (h1 : 0 ≤ sp) (h2 : 0 ≤ dp) (h3 : 0 ≤ n) (h4 : sp.toNatClampNeg + n.toNatClampNeg ≤ n0) (h5 : dp.toNatClampNeg + n.toNatClampNeg ≤ n1)
    (hvals : ∀ j, j < n0 → fits dT (mk (f j)) = true ∧ ∀ x, mk (f j) = .ref x → ∃ (cv : Cell) (kv ke : Class), H[x]? = some cv ∧ cv.vm.isStatics = false ∧ s.vm.classes[cv.cls]? = some kv ∧ s.vm.classes[dComp]? = some ke ∧ s.vm.assignable cv.cls dComp = true)
    (hframes : 1 ≤ R.frames) (hlocals : (rest.map fun v => v.category).sum + (nativeFrameWords "java/lang/System" "arraycopy" 5 + 11) ≤ R.locals) (hdg : decode cc pc = .ok (.invokestatic idx, 3)) (hA : A b) (hS : va_S A s.heap H locs)
    (kk : ∀ (H' : Heap) (locs' : List Loc), H'[b]? = some (arrV c1 n1 (fun j => mk (va_cpy f g sp.toNatClampNeg dp.toNatClampNeg n.toNatClampNeg j))) → H'.size = H.size → (∀ q, q ≠ b → H'[q]? = H[q]?) → va_S A s.heap H' locs' → W p l e R s m args below meth c H' locs' cells slots Q (F0 m (pc + 3) arr rest)) :
    W p l e R s m args below meth c H locs cells slots Q (F0 m pc arr (.int n :: .int dp :: .ref b :: .int sp :: .ref a :: rest)) := by
  have i1 : ¬ sp < 0 := Int32.not_lt.mpr h1
  have i2 : ¬ dp < 0 := Int32.not_lt.mpr h2
  have i3 : ¬ n < 0 := Int32.not_lt.mpr h3
  intro T hT X
  obtain ⟨vm', X', step⟩ := X.arraycopy hx hown hlink hnat hstat hini (src := a) (dst := b) (cs := cs) (cd := arrV c1 n1 (fun j => mk (g j))) (srcPos := sp) (destPos := dp) (n := n) (by rw [hT]; exact hs) (by rw [hT]; exact hd)
    hso (fun _ z => by cases z) hsk (fun z => by cases z) hks hkd hskd hdkd hty i1 i2 i3
    (by rw [am_nn h1, am_nn h3, hsz]; omega)
    (by rw [am_nn h2, am_nn h3, arrV_size]; omega)
    (fun vm₁ hal i hi => by
      have e9 : cs.slots.getD (sp.toNatClampNeg + i) .null = mk (f (sp.toNatClampNeg + i)) := by
        rw [Array.getD_eq_getD_getElem?, hsv _ (by omega)]
        rfl
      rw [e9]
      obtain ⟨v1, v2⟩ := hvals (sp.toNatClampNeg + i) (by omega)
      refine ⟨v1, ?_⟩
      cases hv : mk (f (sp.toNatClampNeg + i)) with
      | ref x =>
        obtain ⟨cv, kv, ke, w1, w2, w3, w4, w5⟩ := v2 x hv
        obtain ⟨kv', hkv', -⟩ := hal.2.2 _ _ w3
        obtain ⟨ke', hke', -⟩ := hal.2.2 _ _ w4
        refine ⟨cv, (show T.heap[x]? = some cv by rw [hT]; exact w1), (fun q z => by rw [z] at w2; cases w2), ⟨kv', hkv'⟩, ⟨ke', hke'⟩, ?_⟩
        show vm₁.assignable _ _ = true
        rw [hal.assignable]
        exact w5
      | _ => trivial)
    (g := F0 m pc arr (.int n :: .int dp :: .ref b :: .int sp :: .ref a :: rest)) rfl (by rw [hml]) (rest := rest) rfl (by rw [hb]; exact hdg) hframes (by show 2 * 0 + _ + _ ≤ _; omega)
  have e1 : copied cs (arrV c1 n1 (fun j => mk (g j))) sp dp n = arrV c1 n1 (fun j => mk (va_cpy f g sp.toNatClampNeg dp.toNatClampNeg n.toNatClampNeg j)) := va_copiedX mk cs c1 f g hsv h4
  rw [e1] at X' step
  have hl : b < H.size := (Array.getElem?_eq_some_iff.mp hd).1
  have hheap : ((T.setVm vm').setCell b (arrV c1 n1 (fun j => mk (va_cpy f g sp.toNatClampNeg dp.toNatClampNeg n.toNatClampNeg j)))).heap = H.setIfInBounds b (arrV c1 n1 (fun j => mk (va_cpy f g sp.toNatClampNeg dp.toNatClampNeg n.toNatClampNeg j))) := by rw [← hT]; rfl
  have oq : ∀ q : Nat, q ≠ b → (H.setIfInBounds b (arrV c1 n1 (fun j => mk (va_cpy f g sp.toNatClampNeg dp.toNatClampNeg n.toNatClampNeg j))))[q]? = H[q]? := fun q hq => by simp [Array.getElem?_setIfInBounds, Ne.symm hq]
  obtain ⟨t, a1, b1⟩ := kk _ _ (by simp [Array.getElem?_setIfInBounds, hl]) (by simp) oq ⟨by simp; exact hS.1, fun q g1 g2 => by
      rw [oq q (fun z => g2 (by rw [z]; exact hA))]
      exact hS.2.1 q g1 g2, fun q hq => by
      rcases List.mem_append.mp hq with z | z
      · exact hS.2.2 q z
      · obtain ⟨y, -, hy⟩ := List.mem_map.mp z
        rw [← hy]
        exact hA⟩ _ hheap X'
  exact ⟨t, step t a1, b1⟩
theorem sw_nat0 {idx : Nat} {t : List (Nat × Nat)} (C : SC p s m args c cc own D dA) (hml : c.maxLocals = nL) (h1 : Cond.methodLink own idx Lib.objectInit ∈ lw_all) (h2 : Cond.instanceMethod Lib.objectInit ∈ lw_all) (h3 : Cond.code Lib.objectInit ⟨#[0xb1]⟩ 1 none ∈ lw_all) (hf : 1 ≤ R.frames) (hl : 64 ≤ R.locals) (hd : decode cc pc = .ok (.invokespecial idx, 3))
    (he : am_nat 1000 (pc, (ls, st)) h t = some (Sum.inl (fr', h'))) (kk : SW p l e R s m args below meth c Q nL N0 S0 LS (SGf D dA A s) fr' h') : SW p l e R s m args below meth c Q nL N0 S0 LS (SGf D dA A s) (pc, (ls, st)) h := by
  obtain ⟨hx, hb, hown, hts, hsx, hKt⟩ := C
  unfold am_nat at he
  split at he
  · rename_i a st' _ hs
    have hs : st = vR (some a) :: st' := hs
    subst hs
    split at he
    · rename_i hc
      obtain ⟨rfl, rfl⟩ := am_nx_some he
      intro H locs arr ha hg hG
      refine W.objInit hx hb hown (hts _ h1) (hts _ h2) (hts _ h3) rfl (by rw [hml]; exact ha.1) rfl hd hf ?_ (kk H locs arr ha hg hG)
      have := am_cats_sum st'
      show 2 * 0 + _ + 12 ≤ _
      omega
    · cases he
  all_goals first | (rename_i q _; exact absurd q (by decide)) | cases he
theorem sw_nat1 {idx : Nat} {t : List (Nat × Nat)} (C : SC p s m args c cc own D dA) (hB : SB s) (hml : c.maxLocals = nL) (h1 : Cond.methodLink own idx arraycopyName ∈ lw_all) (h2 : Cond.native arraycopyName ∈ lw_all) (h3 : Cond.static arraycopyName ∈ lw_all) (h4 : Cond.initialized "java/lang/System" ∈ lw_all) (hf : 1 ≤ R.frames) (hl : 64 ≤ R.locals) (hd : decode cc pc = .ok (.invokestatic idx, 3))
    (he : am_nat 1001 (pc, (ls, st)) h t = some (Sum.inl (fr', h'))) (kk : SW p l e R s m args below meth c Q nL N0 S0 LS (SGf D dA A s) fr' h') : SW p l e R s m args below meth c Q nL N0 S0 LS (SGf D dA A s) (pc, (ls, st)) h := by
  obtain ⟨hx, hb, hown, hts, hsx, hKt⟩ := C
  unfold am_nat at he
  split at he
  · rename_i q _; exact absurd q (by decide)
  · rename_i n j b i a st' _ hs
    have hs : st = vI n :: vI j :: vR (some b) :: vI i :: vR (some a) :: st' := hs
    subst hs
    split at he
    · rename_i hc
      obtain ⟨hc1, hc2, hc3, hc4, hc5, hc6⟩ := hc
      have hloc : ((st'.map am_e).map fun v => v.category).sum + (nativeFrameWords "java/lang/System" "arraycopy" 5 + 11) ≤ R.locals := by
        have e9 : nativeFrameWords "java/lang/System" "arraycopy" 5 ≤ 30 := by decide
        rw [am_cats_sum]
        omega
      split at he
      · rename_i hk
        obtain ⟨rfl, rfl⟩ := am_nx_some he
        intro H locs arr ha hg hG
        have hka : 44 ≤ hK h a ∧ hK h a ≤ 45 := by omega
        obtain ⟨c0, ce, cs, c1, c2, c3, c4, c5, -⟩ := sc_arr (a := a) hKt hG rfl (by omega) (by omega)
        obtain ⟨d0, de, cd, d1, d2, d3, d4, d5, d6⟩ := sc_arr hKt hG hk.2 (by decide) (by decide)
        obtain ⟨d7, d8⟩ := d6 rfl
        subst d8
        have hty : am_aty (hK h a) = .byte := by rcases hk.1 with z | z <;> rw [z] <;> rfl
        rw [hty] at c2
        obtain ⟨g1, ks, g2, cm, g3⟩ := c2
        obtain ⟨-, kd, g4, dm, g5⟩ := d2
        have hav : ∀ j, am_av h (hK h a) a j = Value.int (hI h a j) := fun j => by rcases hk.1 with z | z <;> rw [z] <;> rfl
        refine sc_acopy (mk := fun z => Value.int z) (f := hI h a) (g := hI h b) hx hb (by rw [hml]; exact ha.1.symm) hown (hts _ h1) (hts _ h2) (hts _ h3) (hts _ h4) c1 g1 c3 c4 (fun j hj => by rw [c5 j hj, hav]) g2 g3 d1 g4 g5 rfl hc3 hc4 hc2 hc5 hc6
          (fun j hj => ⟨(ce j hj).2.1 hk.1, fun x z => by cases z⟩) hf hloc hd d7 hG.2 fun H' locs' e1 e2 e3 e4 => ?_
        refine kk H' locs' arr ha hg ⟨hG.1.upd b e2 e3 rfl (fun _ => rfl) (fun _ => rfl) (fun x hx j => by rw [hI_cpyI, if_neg (fun z => hx z.1)]) (fun _ _ _ => rfl) (fun _ _ _ => rfl) (Or.inr ⟨by rw [hk.2]; decide, by rw [hk.2]; decide, ?_⟩), e4⟩
        rw [hk.2]
        refine ⟨d0, fun j' hj' => ⟨fun z => absurd z (by decide), fun _ => ?_, fun z => absurd z (by decide)⟩, fun _ => ?_, fun z => by cases z⟩
        · rw [hI_cpyI]
          split
          · rename_i z
            exact (ce _ (by omega)).2.1 hk.1
          · exact (de j' hj').2.1 (Or.inl rfl)
        · rw [e1]
          congr 2
          funext j'
          show Value.int _ = Value.int _
          rw [hI_cpyI, va_cpy]
          simp only [true_and]
      · split at he
        · rename_i hk
          obtain ⟨rfl, rfl⟩ := am_nx_some he
          intro H locs arr ha hg hG
          obtain ⟨c0, ce, cs, c1, c2, c3, c4, c5, -⟩ := sc_arr (a := a) hKt hG rfl (by omega) (by omega)
          obtain ⟨d0, de, cd, d1, d2, d3, d4, d5, d6⟩ := sc_arr hKt hG hk.2 (by decide) (by decide)
          obtain ⟨d7, d8⟩ := d6 rfl
          subst d8
          have hty : am_aty (hK h a) = .object "java/lang/Object" := by rcases hk.1 with z | z <;> rw [z] <;> rfl
          rw [hty] at c2
          obtain ⟨g1, ks, g2, cm, g3⟩ := c2
          obtain ⟨kd, dm, g4, g5, g6, -⟩ := (hKt.2 4 _ rfl).2
          obtain ⟨ke, hke, -⟩ := Vm.findClass_spec g6
          have hav : ∀ j, am_av h (hK h a) a j = va_rf (hR h a j) := fun j => by rcases hk.1 with z | z <;> rw [z] <;> rfl
          refine sc_acopy (mk := fun z => va_rf z) (f := hR h a) (g := hR h b) hx hb (by rw [hml]; exact ha.1.symm) hown (hts _ h1) (hts _ h2) (hts _ h3) (hts _ h4) c1 g1 c3 c4 (fun j hj => by rw [c5 j hj, hav]) g2 g3 d1 g4 g5 rfl hc3 hc4 hc2 hc5 hc6
            (fun j hj => ⟨by cases hR h a j <;> rfl, fun x z => ?_⟩) hf hloc hd d7 hG.2 fun H' locs' e1 e2 e3 e4 => ?_
          · have hx9 : hR h a j = some x := by
              cases hy : hR h a j with
              | none => rw [hy] at z; cases z
              | some y => rw [hy] at z; cases z; rfl
            obtain ⟨z1, z2⟩ := (ce j hj).2.2 (by omega) x hx9
            obtain ⟨cv, kv, C9, v1, v2, v3, v4, v5, -⟩ := sc_obj hKt hG z1 z2
            exact ⟨cv, kv, ke, v1, v2, v4, hke, sc_cast hB v5 v3 g6⟩
          · refine kk H' locs' arr ha hg ⟨hG.1.upd b e2 e3 rfl (fun _ => rfl) (fun _ => rfl) (fun _ _ _ => rfl) (fun _ _ _ => rfl) (fun x hx j => by rw [hR_cpyR, if_neg (fun z => hx z.1)]) (Or.inr ⟨by rw [hk.2]; decide, by rw [hk.2]; decide, ?_⟩), e4⟩
            rw [hk.2]
            refine ⟨d0, fun j' hj' => ⟨fun z => absurd z (by decide), fun z => by omega, fun _ => ?_⟩, fun _ => ?_, fun z => by cases z⟩
            · rw [hR_cpyR]
              split
              · rename_i z
                exact (ce _ (by omega)).2.2 (by omega)
              · exact (de j' hj').2.2 (by decide)
            · rw [e1]
              congr 2
              funext j'
              show va_rf _ = va_rf _
              rw [hR_cpyR, va_cpy]
              simp only [true_and]
        · cases he
    · cases he
  all_goals first | (rename_i q _; exact absurd q (by decide)) | cases he
theorem sw_nat2 {idx : Nat} {t : List (Nat × Nat)} (C : SC p s m args c cc own D dA) (hE : SEf (hE h) A s s.heap) (hDc : va_Dc s) (hml : c.maxLocals = nL) (h1 : Cond.methodLink own idx ⟨"java/lang/Object", "getClass", "()Ljava/lang/Class;"⟩ ∈ lw_all) (h2 : Cond.native ⟨"java/lang/Object", "getClass", "()Ljava/lang/Class;"⟩ ∈ lw_all) (h3 : Cond.instanceMethod ⟨"java/lang/Object", "getClass", "()Ljava/lang/Class;"⟩ ∈ lw_all)
    (ht : ∀ q ∈ t, (q.1 = 10 ∨ q.1 = 11 ∨ q.1 = 46 ∨ q.1 = 47) ∧ (am_kn q.1, q.2) ∈ am_mirs ∧ Cond.selects (am_kn q.1) ⟨"java/lang/Object", "getClass", "()Ljava/lang/Class;"⟩ ⟨"java/lang/Object", "getClass", "()Ljava/lang/Class;"⟩ ∈ lw_all) (hf : 1 ≤ R.frames) (hl : 64 ≤ R.locals) (hd : decode cc pc = .ok (.invokevirtual idx, 3))
    (he : am_nat 1002 (pc, (ls, st)) h t = some (Sum.inl (fr', h'))) (kk : SW p l e R s m args below meth c Q nL N0 S0 LS (SGf D dA A s) fr' h') : SW p l e R s m args below meth c Q nL N0 S0 LS (SGf D dA A s) (pc, (ls, st)) h := by
  obtain ⟨hx, hb, hown, hts, hsx, hKt⟩ := C
  unfold am_nat at he
  split at he
  · rename_i q _; exact absurd q (by decide)
  · rename_i q _; exact absurd q (by decide)
  · rename_i a st' _ hs
    have hs : st = vR (some a) :: st' := hs
    subst hs
    split at he
    · rename_i hc
      split at he
      · rename_i e9 hlk
        obtain ⟨rfl, rfl⟩ := am_nx_some he
        have hmem : ∀ (t : List (Nat × Nat)) (k m' : Nat), am_look k t = some m' → (k, m') ∈ t := by
          intro t
          induction t with
          | nil => intro k m' q; cases q
          | cons x t ih =>
            intro k m' q
            obtain ⟨x1, x2⟩ := x
            unfold am_look at q
            split at q
            · rename_i z
              cases q
              rw [z]
              exact List.mem_cons_self
            · exact List.mem_cons_of_mem _ (ih k m' q)
        obtain ⟨t1, t2, t3⟩ := ht _ (hmem t _ _ hlk)
        intro H locs arr ha hg hG
        refine va_getC hx hb (by rw [hml]; exact ha.1.symm) hown (hts _ h1) (va_Dc.use hDc) (hts _ t3) (hts _ h3) (hts _ h2) (hE.2.1 _ t2) (sc_kn hKt hG (by dsimp only at t1; omega)) hf ?_ hd (kk H locs arr ha hg hG)
        rw [am_cats_sum]
        omega
      · cases he
    · cases he
  all_goals first | (rename_i q _; exact absurd q (by decide)) | cases he
theorem sw_nat4 {idx : Nat} {t : List (Nat × Nat)} (C : SC p s m args c cc own D dA) (hB : SB s) (hml : c.maxLocals = nL) (hAs : ∀ q : Nat, s.heap.size ≤ q → A q) (hN0 : N0 ≤ hN h) (hS0 : S0 ≤ hS h) (hrc : hN h' - N0 ≤ R.cells) (hrs : hS h' - S0 ≤ R.slots)
    (h1 : Cond.methodLink own idx ⟨"[B", "clone", "()Ljava/lang/Object;"⟩ ∈ lw_all) (h2 : Cond.sameMethod "[B" "java/lang/Object" "clone" "()Ljava/lang/Object;" ∈ lw_all) (h3 : Cond.native ⟨"java/lang/Object", "clone", "()Ljava/lang/Object;"⟩ ∈ lw_all) (h4 : Cond.instanceMethod ⟨"java/lang/Object", "clone", "()Ljava/lang/Object;"⟩ ∈ lw_all) (h5 : Cond.selects "[B" ⟨"[B", "clone", "()Ljava/lang/Object;"⟩ ⟨"java/lang/Object", "clone", "()Ljava/lang/Object;"⟩ ∈ lw_all) (h6 : Cond.castable "[B" "java/lang/Cloneable" ∈ lw_tbl)
    (hf : 1 ≤ R.frames) (hl : 64 ≤ R.locals) (hd : decode cc pc = .ok (.invokevirtual idx, 3))
    (he : am_nat 1004 (pc, (ls, st)) h t = some (Sum.inl (fr', h'))) (kk : SW p l e R s m args below meth c Q nL N0 S0 LS (SGf D dA A s) fr' h') : SW p l e R s m args below meth c Q nL N0 S0 LS (SGf D dA A s) (pc, (ls, st)) h := by
  obtain ⟨hx, hb, hown, hts, hsx, hKt⟩ := C
  unfold am_nat at he
  split at he
  · rename_i q _; exact absurd q (by decide)
  · rename_i q _; exact absurd q (by decide)
  · rename_i q _; exact absurd q (by decide)
  · rename_i q _; exact absurd q (by decide)
  · rename_i a st' _ hs
    have hs : st = vR (some a) :: st' := hs
    subst hs
    split at he
    · rename_i hc
      obtain ⟨hc, hk⟩ := hc
      obtain ⟨rfl, rfl⟩ := am_nx_some he
      rw [hN_cpyI, hN_newC] at hrc
      rw [hS_cpyI, hS_newC] at hrs
      intro H locs arr ha hg hG
      obtain ⟨d0, de, cd, d1, d2, d3, d4, d5, d6⟩ := sc_arr hKt hG hk (by decide) (by decide)
      obtain ⟨d7, d8⟩ := d6 rfl
      subst d8
      have hnm : s.vm.findClass "[B" = some (dA 44) := (hKt.2 3 _ rfl).2
      obtain ⟨c0, t0', f1, f2, f3⟩ := Cond.castable_spec (va_Nw.use (A := args) rfl (hB.2.2 _ _ h6))
      cases hnm.symm.trans f1
      have e9 : hN h = H.size := hG.1.1
      intro T hT X
      have hcellT : T.heap[a]? = some (arrV (dA 44) (hL h a) (am_av h 44 a)) := by rw [hT]; exact d1
      obtain ⟨-, kA, hkA, comp, hkind⟩ := State.isArrayOf_alike X.warmed.alike ((hKt.2 3 _ rfl).1 0 (fun _ => .null))
      obtain ⟨-, kS, hkS, compS, hkindS⟩ := (hKt.2 3 _ rfl).1 0 (fun _ => .null)
      obtain ⟨vm', X', stp⟩ := X.cloneArray hx hown (hts _ h1) (hts _ h2) (hts _ h3) (hts _ h4) (hts _ h5) (a := a) (cell := arrV (dA 44) (hL h a) (am_av h 44 a)) hcellT (fun k z => by cases z) (fun z => by cases z) hnm f2 f3
        (fun i v hv => by
          have hk' : T.vm.classes[dA 44]? = some kA := hkA
          have hi : i < hL h a := by
            have := (Array.getElem?_eq_some_iff.mp hv).1
            rw [arrV_size] at this
            exact this
          rw [arrV_read _ _ hi] at hv
          cases hv
          have hfit := (de i hi).2.1 (Or.inl rfl)
          show T.fitsSlot (dA 44) _ i (am_av h 44 a i) = true
          simpa [State.fitsSlot, State.slotType?, hk', hkind, am_av] using hfit)
        (g := F0 m pc arr (.ref a :: st'.map am_e)) rfl (by rw [hml]; exact ha.1) rfl (by rw [hb]; exact hd) hf (by show 2 * 0 + _ + 14 ≤ _; rw [am_cats_sum]; omega) (by omega) (by rw [arrV_size]; omega) (hloader := Vm.clonesLoader_of_array hkS hkindS)
      rw [arrV_size] at X'
      have hcell : ({ cls := (arrV (dA 44) (hL h a) (am_av h 44 a)).cls, slots := (arrV (dA 44) (hL h a) (am_av h 44 a)).slots } : Cell) = arrV (dA 44) (hL h a) (am_av h 44 a) := rfl
      rw [hcell] at X'
      have hG' : SGf D dA A s (cpyI (newC h 44 (hL h a)) a 0 (hN h) 0 (hL h a)) (H.push (arrV (dA 44) (hL h a) (am_av h 44 a))) locs := by
        have hlt : a < H.size := by rw [← e9]; exact hK_lt hk (by decide)
        have hne : a ≠ hN h := by omega
        have o1 : ∀ q, q < H.size → (H.push (arrV (dA 44) (hL h a) (am_av h 44 a)))[q]? = H[q]? := fun q hq => by rw [Array.getElem?_push, if_neg (Nat.ne_of_lt hq)]
        have hval : ∀ j, j < hL h a → hI (cpyI (newC h 44 (hL h a)) a 0 (hN h) 0 (hL h a)) (hN h) j = hI h a j := fun j hj => by
          rw [hI_cpyI, if_pos ⟨rfl, by omega, by omega⟩, hI_newC, if_neg hne]
          congr 1
          omega
        have hL9 : hL (cpyI (newC h 44 (hL h a)) a 0 (hN h) 0 (hL h a)) (hN h) = hL h a := by rw [hL_cpyI, hL_newC, if_pos rfl]
        have hbase := hG.1.new (c := 44) (n := hL h a) (H' := H.push (arrV (dA 44) (hL h a) (am_av (newC h 44 (hL h a)) 44 H.size))) (by decide) (hAs _ hG.2.1) (by rw [Array.size_push]) (fun q hq => by rw [Array.getElem?_push, if_neg (Nat.ne_of_lt hq)]) (Or.inr ⟨by decide, by decide, by
          refine ⟨by rw [hL_newC, e9, if_pos rfl]; exact d0, fun j _ => ⟨fun z => absurd z (by decide), fun _ => by rw [hI_newC, e9, if_pos rfl]; rfl, fun z => absurd z (by decide)⟩, fun _ => by rw [Array.getElem?_push_size, hL_newC, e9, if_pos rfl], fun z => by cases z⟩⟩)
        refine ⟨hbase.upd H.size (by rw [Array.size_push, Array.size_push]) (fun q hq => by rw [Array.getElem?_push, Array.getElem?_push, if_neg hq, if_neg hq]) rfl (fun _ => rfl) (fun _ => rfl) (fun b hb j => by rw [hI_cpyI, if_neg (fun z => hb (by rw [z.1, e9]))]) (fun _ _ _ => rfl) (fun _ _ _ => rfl) (Or.inr ?_), ⟨Nat.le_trans hG.2.1 (by rw [Array.size_push]; omega), fun x g1 g2 => (o1 x (Nat.lt_of_lt_of_le g1 hG.2.1)).trans (hG.2.2.1 x g1 g2), hG.2.2.2⟩⟩
        rw [hK_newC, e9, if_pos rfl]
        refine ⟨by decide, by decide, ?_⟩
        rw [e9] at hL9 hval
        refine ⟨by rw [hL9]; exact d0, fun j hj => ⟨fun z => absurd z (by decide), fun _ => ?_, fun z => absurd z (by decide)⟩, fun _ => ?_, fun z => by cases z⟩
        · rw [hL9] at hj
          rw [hval j hj]
          exact (de j hj).2.1 (Or.inl rfl)
        · rw [Array.getElem?_push_size, hL9]
          congr 1
          unfold arrV
          congr 1
          apply Array.ext
          · simp
          · intro i hi1 hi2
            simp only [Array.getElem_ofFn]
            have hi : i < hL h a := by simpa using hi1
            show Value.int _ = Value.int _
            rw [hval i hi]
      have hk1 := kk _ locs arr ha hg hG'
      rw [hN_cpyI, hN_newC, hS_cpyI, hS_newC] at hk1
      have hk2 := hk1 ((T.setVm vm').pushCell (arrV (dA 44) (hL h a) (am_av h 44 a))) (by show Array.push T.heap _ = _; rw [hT]) (by
        rw [show hN h + 1 - N0 = hN h - N0 + 1 by omega, show hS h + hL h a - S0 = hS h - S0 + hL h a by omega]
        exact X')
      obtain ⟨t9, b1, b2⟩ := hk2
      refine ⟨t9, stp t9 ?_, b2⟩
      have e8 : (T.setVm vm').heap.size = hN h := by show T.heap.size = _; rw [hT, e9]
      first | (rw [e8]; exact b1) | (have e7 : T.heap.size = hN h := e8; rw [e7]; exact b1) | exact b1
    · cases he
  all_goals first | (rename_i q _; exact absurd q (by decide)) | cases he
end SIMJ
