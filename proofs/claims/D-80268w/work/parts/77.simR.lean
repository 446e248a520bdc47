/-! THE SIMULATION, part R: a call; the main induction -/
theorem am_isInv_noend {ai : am_I} {fr : am_F} {h h' : am_H} {o : am_O} (hi : am_isInv ai.1 = true) (he : am_exec ai fr h = some (Sum.inr (Sum.inl (o, h')))) : False := by
  obtain ⟨ins, len, ops, t⟩ := ai
  cases ins <;> first | (cases hi; done) | (simp only [am_exec] at he; first | exact am_inv_noend he | exact am_spc_noend he)
theorem am_isInv_call {ai : am_I} {fr : am_F} {h : am_H} {x : Nat × (List am_V × List am_V)} (he : am_exec ai fr h = some (Sum.inr (Sum.inr x))) : am_isInv ai.1 = true := by
  obtain ⟨ins, len, ops, t⟩ := ai
  rcases am_exec_call he with ⟨⟨i, rfl⟩, -⟩ | ⟨⟨i, rfl⟩, -⟩ | ⟨⟨i, rfl⟩ | ⟨i, j, rfl⟩, -⟩ <;> rfl
theorem am_call_ops {ai : am_I} {fr : am_F} {h : am_H} {x : Nat × (List am_V × List am_V)} (he : am_exec ai fr h = some (Sum.inr (Sum.inr x))) (hz : am_hdl ai = none) : ∃ a sg, ai.2.2.1 = a :: 0 :: sg := by
  obtain ⟨ins, len, ops, t⟩ := ai
  obtain ⟨m', vs, rest⟩ := x
  have key : ∃ a b sg, ops = a :: b :: sg := by
    rcases am_exec_call he with ⟨-, hi⟩ | ⟨-, hi⟩ | ⟨-, hi⟩
    · obtain ⟨a, b, sg, ho, -⟩ := am_inv_call hi
      exact ⟨a, b, sg, ho⟩
    · obtain ⟨a, b, sg, ho, -⟩ := am_spc_call hi
      exact ⟨a, b, sg, ho⟩
    · obtain ⟨a, b, sg, ho, -⟩ := am_inv_call hi
      exact ⟨a, b, sg, ho⟩
  obtain ⟨a, b, sg, rfl⟩ := key
  cases b with
  | zero => exact ⟨a, sg, rfl⟩
  | succ b => cases hz
theorem am_sub3 {a b c : Nat} (h1 : a ≤ b) (h2 : b ≤ c) : b - a + (c - b) = c - a := by omega
theorem am_len1 {v : am_V} {vs : List am_V} {a n : Nat} (h1 : (v :: vs).length = a) (h2 : a = n + 1) : vs.length = n := by
  rw [List.length_cons] at h1
  omega
theorem am_deep_le {fl : Bool} {r lvl lv' r' : Nat} (hdeep : am_deep fl r lvl lv' = some r') (h : lv' ≤ 31) : 32 * r' + lv' + 1 + 1 ≤ 32 * r + lvl + 1 := by
  unfold am_deep at hdeep
  cases fl with
  | true =>
    cases r with
    | zero => cases hdeep
    | succ r =>
      simp only [Option.some.injEq] at hdeep
      omega
  | false =>
    simp only at hdeep
    split at hdeep
    · rename_i hb9
      have := Nat.blt_eq.mp hb9
      simp only [Option.some.injEq] at hdeep
      omega
    · cases hdeep
theorem am_room {a b L x : Nat} (h : a + 1 ≤ b) (hL : L ≤ 45) (hx : 64 * b ≤ x) : 8 + (L + 11) + 64 * a ≤ x := by omega
section SIMR
variable {p : Program} {l : Launch} {e : Env} {R : Room} {s : State} {m : MethodId} {args : Array Value} {below : List Frame} {meth : Method} {c : Code} {cc : ByteArray} {Q : State → Prop} {nL N0 S0 : Nat} {LS : List Nat}
variable {pc : Nat} {ls : List (Option am_V)} {st : List am_V} {h h1 : am_H} {D : va_G} {dA : Nat → ClassId} {A : Nat → Prop} {own : String}
theorem sim_core {mt : Nat → Option am_T} (HV : ∀ i T, mt i = some T → am_MV mt i T) {n r' m' lvl r : Nat} (IH : am_RunOk mt l n) (C : SC p s m args c cc own D dA) (hSP : SP D dA A (hE h) s s.heap) (hml : c.maxLocals = nL) (hfr : 32 * r + lvl + 1 ≤ R.frames) (hlo : 64 * (32 * r + lvl + 1) ≤ R.locals) {ins : Instr} {len : Nat} {fl : Bool} {vs rest : List am_V} {pm' : am_M} {o1 : am_O} {T : am_T}
    (hpm' : am_prog m' = some pm') (hdeep : am_deep fl r lvl pm'.2.1 = some r') (hr : am_run am_prog n r' m' (0, (am_pad pm'.1 (am_slots vs), [])) h = some (o1, h1)) (hN0 : N0 ≤ hN h) (hS0 : S0 ≤ hS h) (hrc : hN h1 - N0 ≤ R.cells) (hrs : hS h1 - S0 ≤ R.slots) (d1 : decode cc pc = .ok (ins, len))
    (hT : mt m' = some T) (hm0 : m' ≠ 0) (hst : st = vs.reverse ++ rest) (hcat : am_cats rest ≤ 8) (htd : am_td T.2.2.2.2.1 vs) (Cn : String) (V : am_VX own ins len Cn T.1 T.2.2.1 T.2.2.2.2.2.2 T.2.2.2.1)
    (hrec : ((∃ idx, ins = .invokestatic idx) ∧ vs.length = T.2.2.2.2.2.2) ∨ (¬ (∃ idx, ins = .invokestatic idx)) ∧ ∃ q vs', vs = vR (some q) :: vs' ∧ vs'.length = T.2.2.2.2.2.2 ∧ (0 < hK h q ∧ hK h q < 40 ∧ Cn = am_kn (hK h q) ∨ q = hE h 33 ∧ Cn = am_kn 23))
    (k1 : ∀ v, o1 = Sum.inl v → SW p l e R s m args below meth c Q nL N0 S0 LS (SGf D dA A s) (pc + len, (ls, v.toList ++ rest)) h1)
    (k2 : ∀ q, o1 = Sum.inr q → ∀ (H' : Heap) (locs' : List Loc) (arr : Array Slot) (ce : Cell), am_l ls arr nL → am_lg LS ls → SGf D dA A s h1 H' locs' → H'[q]? = some ce → ce.vm = .none → s.vm.findClass am_wn = some ce.cls → vx_W p l e R s m args below meth c H' locs' (hN h1 - N0) (hS h1 - S0) Q (F0 m pc arr (rest.map am_e)) q) :
    SW p l e R s m args below meth c Q nL N0 S0 LS (SGf D dA A s) (pc, (ls, st)) h := by
  obtain ⟨hx, hb, hown, hts, hsx, hKt⟩ := id C
  obtain ⟨pm9, hpm9, g0, -⟩ := HV m' T hT
  cases hpm'.symm.trans hpm9
  obtain ⟨g1, g2, g3, g4, g5, g6, g7, g8⟩ := g0 hm0
  have hgr := am_run_gr n _ _ _ _ _ _ hr (fun ai fr h o h' q => am_exec_end q)
  have hM := sim_met HV IH hT hm0 hpm' htd hr D dA A
  have hdp := am_deep_le hdeep g7
  intro H locs arr ha hg hG
  have e1 : hN h - N0 + (hN h1 - hN h) = hN h1 - N0 := am_sub3 hN0 hgr.2.1
  have e2 : hS h - S0 + (hS h1 - hS h) = hS h1 - S0 := am_sub3 hS0 hgr.2.2
  have hgoal : ((pc, (ls, st)) : am_F).2.2.map am_e = (vs.map am_e).reverse ++ rest.map am_e := by
    show st.map am_e = _
    rw [hst, List.map_append, List.map_reverse]
  rw [hgoal]
  refine sw_runL (o := o1) (h' := h1) (D := D) (dA := dA) (A := A) (len := len) (mc := hN h1 - hN h) (ms := hS h1 - hS h)
    (sc_callX (vs := vs.map am_e) (rest := rest.map am_e) (n := T.2.2.2.2.2.2) (C := Cn) (A := A) ⟨hx, hb, hml, hown, hts⟩ ⟨hSP.2.2.1, hSP.2.2.2.2.1, hSP.2.2.2.2.2.1⟩ V g2 g3 g4 hM rfl rfl ⟨Nat.le_trans hdp hfr, am_room hdp g6 hlo⟩ am_Pc_blind ?_ ?_ ?_ ha.1 (by rw [am_cats_sum]; exact hcat) d1 ⟨by rw [e1]; exact hrc, by rw [e2]; exact hrs⟩)
    (fun _ _ _ z => z) (fun _ _ _ _ z => z) hG.2 (fun _ z => z) ?_ ?_
  · intro U hU hW
    refine ⟨rfl, ?_, ?_⟩
    · rw [hU]
      exact hSP.moved hW hG.2.1 hG.2.2.1
    · rw [hU]
      exact hG.1.moved hW.alike
  · rcases hrec with ⟨z, -⟩ | ⟨-, q, vs', rfl, hl, ⟨h0, h40, rfl⟩ | ⟨rfl, rfl⟩⟩
    · exact Or.inl z
    · exact Or.inr ⟨q, vs'.map am_e, rfl, by rw [List.length_map]; exact hl, sc_kn hKt hG (Or.inl ⟨h0, h40⟩)⟩
    · exact Or.inr ⟨_, vs'.map am_e, rfl, by rw [List.length_map]; exact hl, sc_u hSP.2.2.2.2.2.2.2.1 hG⟩
  · intro z
    rcases hrec with ⟨-, hl⟩ | ⟨z', -⟩
    · rw [List.length_map]; exact hl
    · exact absurd z z'
  · intro v hv H' locs' hG'
    have := k1 v hv H' locs' arr ha hg hG'
    rw [e1, e2]
    have e3 : (v.map am_e).toList ++ rest.map am_e = (v.toList ++ rest).map am_e := by cases v <;> simp
    rw [e3]
    exact this
  · intro q hq H' locs' ce hG' c1 c2 c3
    rw [e1, e2]
    exact k2 q hq H' locs' arr ce ha hg hG' c1 c2 c3
theorem sim_call {mt : Nat → Option am_T} (HV : ∀ i T, mt i = some T → am_MV mt i T) {n r' m' lvl r : Nat} (IH : am_RunOk mt l n) (C : SC p s m args c cc own D dA) (hSP : SP D dA A (hE h) s s.heap) (hml : c.maxLocals = nL) (hfr : 32 * r + lvl + 1 ≤ R.frames) (hlo : 64 * (32 * r + lvl + 1) ≤ R.locals) {ai : am_I} {vs rest : List am_V} {pm' : am_M} {o1 : am_O}
    (V : ai.2.2.1 = [] ∨ (ai.2.1 = 3 ∧ ∃ n, ai.2.2.1 = [n] ∧ am_VT own ai.1 ai.2.2.2 n) ∨ ∃ a b sg, ai.2.2.1 = a :: b :: sg ∧ ∀ q ∈ ai.2.2.2, ∃ T, mt q.2 = some T ∧ q.2 ≠ 0 ∧ T.2.2.2.2.1 = sg.reverse ∧ am_VQ own ai.1 ai.2.1 q.1 T)
    (hx : am_exec ai (pc, (ls, st)) h = some (Sum.inr (Sum.inr (m', (vs, rest)))))
    (hpm' : am_prog m' = some pm') (hdeep : am_deep (am_flag ai) r lvl pm'.2.1 = some r') (hr : am_run am_prog n r' m' (0, (am_pad pm'.1 (am_slots vs), [])) h = some (o1, h1)) (hN0 : N0 ≤ hN h) (hS0 : S0 ≤ hS h) (hrc : hN h1 - N0 ≤ R.cells) (hrs : hS h1 - S0 ≤ R.slots) (d1 : decode cc pc = .ok (ai.1, ai.2.1))
    (k1 : ∀ v, o1 = Sum.inl v → SW p l e R s m args below meth c Q nL N0 S0 LS (SGf D dA A s) (pc + ai.2.1, (ls, v.toList ++ rest)) h1)
    (k2 : ∀ q, o1 = Sum.inr q → ∀ (H' : Heap) (locs' : List Loc) (arr : Array Slot) (ce : Cell), am_l ls arr nL → am_lg LS ls → SGf D dA A s h1 H' locs' → H'[q]? = some ce → ce.vm = .none → s.vm.findClass am_wn = some ce.cls → vx_W p l e R s m args below meth c H' locs' (hN h1 - N0) (hS h1 - S0) Q (F0 m pc arr (rest.map am_e)) q) :
    SW p l e R s m args below meth c Q nL N0 S0 LS (SGf D dA A s) (pc, (ls, st)) h := by
  obtain ⟨ins, len, ops, t⟩ := ai
  dsimp only at V d1 k1
  have hV : ∀ a b sg, ops = a :: b :: sg → ∀ q ∈ t, ∃ T, mt q.2 = some T ∧ q.2 ≠ 0 ∧ T.2.2.2.2.1 = sg.reverse ∧ am_VQ own ins len q.1 T := by
    intro a b sg ho
    rcases V with z | ⟨-, n9, z, -⟩ | ⟨a', b', sg', z, V⟩
    · rw [z] at ho; cases ho
    · rw [z] at ho; cases ho
    · rw [z] at ho
      cases ho
      exact V
  rcases am_exec_call hx with ⟨⟨idx, rfl⟩, hi⟩ | ⟨⟨idx, rfl⟩, hi⟩ | ⟨hv, hi⟩
  · obtain ⟨a, b, sg, ho, hst, hcat, htd, ⟨-, hmem⟩ | ⟨z, -⟩⟩ := am_inv_call hi
    · obtain ⟨T, hT, hm0, hsg, hq⟩ := hV a b sg ho _ hmem
      rw [← hsg] at htd
      rcases hq with ⟨i2, -, hlen, hVX⟩ | ⟨i2, z, -⟩ | ⟨⟨i2, z⟩ | ⟨i2, i3, z⟩, -⟩
      · exact sim_core HV IH C hSP hml hfr hlo hpm' hdeep hr hN0 hS0 hrc hrs d1 hT hm0 hst hcat htd "" (hVX "") (Or.inl ⟨⟨idx, rfl⟩, by rw [am_td_len htd]; exact hlen⟩) k1 k2
      · cases z
      · cases z
      · cases z
    · cases z
  · obtain ⟨a, b, sg, ho, hst, hcat, htd, ⟨q, vs', rfl, h0, h40⟩, hmem⟩ := am_spc_call hi
    obtain ⟨T, hT, hm0, hsg, hq⟩ := hV a b sg ho _ hmem
    rw [← hsg] at htd
    rcases hq with ⟨i2, z, -⟩ | ⟨i2, -, hlen, hVX⟩ | ⟨⟨i2, z⟩ | ⟨i2, i3, z⟩, -⟩
    · cases z
    · exact sim_core HV IH C hSP hml hfr hlo hpm' hdeep hr hN0 hS0 hrc hrs d1 hT hm0 hst hcat htd _ (hVX _) (Or.inr ⟨fun ⟨_, z⟩ => (by cases z), q, vs', rfl, am_len1 (am_td_len htd) hlen, Or.inl ⟨h0, h40, rfl⟩⟩) k1 k2
    · cases z
    · cases z
  · obtain ⟨a, b, sg, ho, hst, hcat, htd, ⟨z, -⟩ | ⟨-, q, vs', rfl, hmem | ⟨hqu, hmem⟩⟩⟩ := am_inv_call hi
    · cases z
    · obtain ⟨T, hT, hm0, hsg, hq⟩ := hV a b sg ho _ hmem
      rw [← hsg] at htd
      rcases hq with ⟨i2, z, -⟩ | ⟨i2, z, -⟩ | ⟨-, hlen, h0, h40, hVX⟩
      · rcases hv with ⟨i3, z'⟩ | ⟨i3, i4, z'⟩ <;> rw [z'] at z <;> cases z
      · rcases hv with ⟨i3, z'⟩ | ⟨i3, i4, z'⟩ <;> rw [z'] at z <;> cases z
      · exact sim_core HV IH C hSP hml hfr hlo hpm' hdeep hr hN0 hS0 hrc hrs d1 hT hm0 hst hcat htd _ hVX (Or.inr ⟨fun ⟨i5, z⟩ => (by rcases hv with ⟨i3, z'⟩ | ⟨i3, i4, z'⟩ <;> rw [z'] at z <;> cases z), q, vs', rfl, am_len1 (am_td_len htd) hlen, Or.inl ⟨h0, h40, rfl⟩⟩) k1 k2
    · obtain ⟨T, hT, hm0, hsg, hq⟩ := hV a b sg ho _ hmem
      rw [← hsg] at htd
      rcases hq with ⟨i2, z, -⟩ | ⟨i2, z, -⟩ | ⟨-, hlen, h0, h40, hVX⟩
      · rcases hv with ⟨i3, z'⟩ | ⟨i3, i4, z'⟩ <;> rw [z'] at z <;> cases z
      · rcases hv with ⟨i3, z'⟩ | ⟨i3, i4, z'⟩ <;> rw [z'] at z <;> cases z
      · exact sim_core HV IH C hSP hml hfr hlo hpm' hdeep hr hN0 hS0 hrc hrs d1 hT hm0 hst hcat htd _ hVX (Or.inr ⟨fun ⟨i5, z⟩ => (by rcases hv with ⟨i3, z'⟩ | ⟨i3, i4, z'⟩ <;> rw [z'] at z <;> cases z), q, vs', rfl, am_len1 (am_td_len htd) hlen, Or.inr ⟨hqu, rfl⟩⟩) k1 k2
end SIMR
theorem sim_main {mt : Nat → Option am_T} (HV : ∀ i T, mt i = some T → am_MV mt i T) (l : Launch) : ∀ n, am_RunOk mt l n
  | 0 => by
    intro r i fr h o h' e
    simp [am_run] at e
  | n + 1 => by
    have IH := sim_main HV l n
    intro r i fr h o h' e T pm hT hpm p e9 R s m args below meth c N0 S0 D dA A hBD hSP hN0 hS0 hrc hrs
    obtain ⟨pm9, hpm9, -, g9⟩ := HV i T hT
    cases hpm.symm.trans hpm9
    obtain ⟨hC, hlocks, hret, htab, hml, hnm, hfr, hlo⟩ := id hBD
    obtain ⟨pc, ls, st⟩ := fr
    rw [am_run, hpm] at e
    dsimp only at e
    split at e
    · cases e
    · rename_i ai hai
      obtain ⟨d1, d2, ini, d3, d4⟩ := g9 pc ai hai
      split at e
      · cases e
      · rename_i fr1 h1 hx
        have hgr1 := am_exec_gr hx
        have hgr2 := am_run_gr n _ _ _ _ _ _ e (fun ai fr h o h' q => am_exec_end q)
        have kk := IH r i fr1 h1 o h' e T pm hT hpm p e9 R s m args below meth c N0 S0 D dA A hBD (by rw [hgr1.1]; exact hSP) (Nat.le_trans hN0 hgr1.2.1) (Nat.le_trans hS0 hgr1.2.2) hrc hrs
        have hrc1 : hN h1 - N0 ≤ R.cells := by have := hgr2.2.1; omega
        have hrs1 : hS h1 - S0 ≤ R.slots := by have := hgr2.2.2; omega
        rcases d4 with ⟨i1, V⟩ | ⟨i1, V⟩
        · exact sim_step i1 hC hSP.2.2.2.1 hSP.2.2.2.2.2.2.2.1 (fun z => hnm.trans (d3 z)) V hSP.2.2.2.2.2.2.2.2 hN0 hS0 hrc1 hrs1 d1 hx kk
        · obtain ⟨n9, ho, hnat⟩ := am_isInv_inl i1 hx
          rcases V with z | ⟨hl3, n8, z, V⟩ | ⟨a, b, sg, z, -⟩
          · rw [z] at ho; cases ho
          · rw [z] at ho
            cases ho
            rw [hl3] at d1
            exact sim_nat hC hSP hml V (by omega) (by omega) hN0 hS0 hrc1 hrs1 d1 hnat kk
          · rw [z] at ho; cases ho
      · rename_i o1 hx
        obtain ⟨o1, h1⟩ := o1
        cases e
        have hh := am_exec_end hx
        rcases d4 with ⟨i1, V⟩ | ⟨i1, V⟩
        · exact (sim_end hC hlocks hret (fun z x hx9 => by rw [htab] at hx9; exact d2.2.1 z x hx9) V (by rw [hh]; exact Nat.le_refl _) (by rw [hh]; exact Nat.le_refl _) d1 hx).2
        · exact (am_isInv_noend i1 hx).elim
      · rename_i m' vs rest hx
        split at e
        · cases e
        · rename_i pm' hpm'
          split at e
          · cases e
          · rename_i r' hdeep
            have V := d4.resolve_left (fun z => by rw [am_isInv_call hx] at z; cases z.1)
            split at e
            · cases e
            · rename_i v h1 hr
              have hgr1 := am_run_gr n _ _ _ _ _ _ hr (fun ai fr h o h' q => am_exec_end q)
              have hgr2 := am_run_gr n _ _ _ _ _ _ e (fun ai fr h o h' q => am_exec_end q)
              refine sim_call HV IH hC hSP hml hfr hlo V.2 hx hpm' hdeep hr hN0 hS0 (by have := hgr2.2.1; omega) (by have := hgr2.2.2; omega) d1 (fun v9 z => ?_) (fun q z => by cases z)
              cases z
              exact IH r i _ h1 o h' e T pm hT hpm p e9 R s m args below meth c N0 S0 D dA A hBD (by rw [hgr1.1]; exact hSP) (Nat.le_trans hN0 hgr1.2.1) (Nat.le_trans hS0 hgr1.2.2) hrc hrs
            · rename_i q h1 hr
              have hgr1 := am_run_gr n _ _ _ _ _ _ hr (fun ai fr h o h' q => am_exec_end q)
              split at e
              · rename_i hz
                cases e
                refine sim_call HV IH hC hSP hml hfr hlo V.2 hx hpm' hdeep hr hN0 hS0 hrc hrs d1 (fun v9 z => by cases z) (fun q9 z H' locs' arr ce ha hg hG c1 c2 c3 => ?_)
                cases z
                obtain ⟨a8, sg8, ho8⟩ := am_call_ops hx hz
                exact vx_out (fun x hx9 => by rw [htab] at hx9; exact d2.1 a8 sg8 V.1 ho8 x hx9) hlocks c1 c2 c3 (fun t' ht hal => ⟨rfl, rfl, by rw [ht]; exact hG.1.moved hal, hG.2.F ht⟩) hG.2.2.2 (Nat.le_refl _) (Nat.le_refl _)
              · rename_i tg hz
                split at e
                · rename_i hw
                  have hgr2 := am_run_gr n _ _ _ _ _ _ e (fun ai fr h o h' q => am_exec_end q)
                  obtain ⟨x, x1, x2, x3, x4, x5, x6⟩ := d2.2.2 tg V.1 hz
                  refine sim_call HV IH hC hSP hml hfr hlo V.2 hx hpm' hdeep hr hN0 hS0 (by have := hgr2.2.1; omega) (by have := hgr2.2.2; omega) d1 (fun v9 z => by cases z) (fun q9 z H' locs' arr ce ha hg hG c1 c2 c3 => ?_)
                  cases z
                  have kk := IH r i _ h1 o h' e T pm hT hpm p e9 R s m args below meth c N0 S0 D dA A hBD (by rw [hgr1.1]; exact hSP) (Nat.le_trans hN0 hgr1.2.1) (Nat.le_trans hS0 hgr1.2.2) hrc hrs
                  refine vx_catch (E := am_wn) (name := am_wn) hC.2.2.1 [] x [] (by rw [htab, x1]; rfl) (fun z hz9 => by cases hz9) x2 x3 (hC.2.2.2.1 _ x5) (va_Nw.use rfl (hSP.2.2.2.1.2.2 _ _ x6)) c1 c2 c3 ?_
                  rw [x4]
                  exact kk H' locs' arr ha hg hG
                · cases e
