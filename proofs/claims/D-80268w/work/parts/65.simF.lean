/-! THE SIMULATION, part F: arrays -/
/-- what else a body has of the tables: array classes over Object and Node, castable pairs -/
def SB (U : State) : Prop := va_AO "java/lang/Object" U ∧ va_AO "java/util/HashMap$Node" U ∧ ∀ C T : String, Cond.castable C T ∈ lw_tbl → va_Nw (.castable C T) U
section SIMF
variable {p : Program} {l : Launch} {e : Env} {R : Room} {s : State} {m : MethodId} {args : Array Value} {below : List Frame} {meth : Method} {c : Code} {cc : ByteArray} {Q : State → Prop} {nL N0 S0 : Nat} {LS : List Nat}
variable {pc : Nat} {ls : List (Option am_V)} {st : List am_V} {h h' : am_H} {fr' : am_F} {D : va_G} {dA : Nat → ClassId} {A : Nat → Prop} {own : String}
theorem am_wr {ck : Nat} (h1 : 40 ≤ ck) (h2 : ck ≤ 49) (hr : am_ro ck = false) : ck = 40 ∨ ck = 42 ∨ ck = 43 ∨ ck = 44 ∨ ck = 46 ∨ ck = 48 := by
  have : ck = 40 ∨ ck = 41 ∨ ck = 42 ∨ ck = 43 ∨ ck = 44 ∨ ck = 45 ∨ ck = 46 ∨ ck = 47 ∨ ck = 48 ∨ ck = 49 := by omega
  rcases this with rfl | rfl | rfl | rfl | rfl | rfl | rfl | rfl | rfl | rfl <;> first | (cases hr; done) | simp
theorem am_tys_at (dA : Nat → ClassId) {ck : Nat} (h1 : 40 ≤ ck) (h2 : ck ≤ 49) (hr : am_ro ck = false) : ∃ t : Nat, (am_tys dA)[t]? = some (dA ck, am_aty ck) := by
  rcases am_wr h1 h2 hr with rfl | rfl | rfl | rfl | rfl | rfl
  · exact ⟨0, rfl⟩
  · exact ⟨1, rfl⟩
  · exact ⟨2, rfl⟩
  · exact ⟨3, rfl⟩
  · exact ⟨4, rfl⟩
  · exact ⟨5, rfl⟩
theorem sc_arr {H : Heap} {locs : List Loc} {a ck : Nat} (hKt : va_K D am_cls (am_tys dA) s) (hG : SGf D dA A s h H locs) (hk : hK h a = ck) (h1 : 40 ≤ ck) (h2 : ck ≤ 49) : hL h a ≤ 1000000 ∧ am_el h ck a ∧ ∃ cell : Cell, H[a]? = some cell ∧ s.isArrayOf cell (am_aty ck) ∧ cell.vm ≠ .unknown ∧ cell.slots.size = hL h a ∧ (∀ j, j < hL h a → cell.slots[j]? = some (am_av h ck a j)) ∧ (am_ro ck = false → A a ∧ cell = arrV (dA ck) (hL h a) (am_av h ck a)) := by
  obtain ⟨hA, hc⟩ := hG.1.2 a ck hk (by omega)
  rcases hc with ⟨z, -⟩ | ⟨-, -, z1, z2, z3, z4⟩ | ⟨z, -⟩
  · omega
  · refine ⟨z1, z2, ?_⟩
    cases hr : am_ro ck with
    | false =>
      obtain ⟨t, ht⟩ := am_tys_at dA h1 h2 hr
      refine ⟨_, z3 hr, (hKt.2 t _ ht).1 _ _, (fun q => by cases q), arrV_size _ _ _, fun j hj => arrV_read _ _ hj, fun _ => ⟨hA hr, rfl⟩⟩
    | true =>
      obtain ⟨cell, c1, c2, c3, c4, c5, -⟩ := z4 hr
      exact ⟨cell, c1, c2, c3, c4, c5, fun q => by cases q⟩
  · omega
theorem sw_ald {lo hi : Nat} {f : Nat → Nat → am_V} (hKt : va_K D am_cls (am_tys dA) s) (hlo : 40 ≤ lo) (hhi : hi ≤ 49) (hf : ∀ a j ck, hK h a = ck → lo ≤ ck → ck ≤ hi → am_e (f a j) = am_av h ck a j)
    (row : ∀ (ck : Nat), lo ≤ ck → ck ≤ hi → ∀ (H : Heap) (locs : List Loc) (cells slots a : Nat) (cell : Cell) (i : Int32) (v : Value) (arr : Array Slot) (rest : List Value), H[a]? = some cell → s.isArrayOf cell (am_aty ck) → cell.vm ≠ .unknown → ¬ (i < 0 ∨ cell.slots.size ≤ i.toNatClampNeg) → cell.slots[i.toNatClampNeg]? = some v → W p l e R s m args below meth c H locs cells slots Q (F0 m (pc + 1) arr (v :: rest)) → W p l e R s m args below meth c H locs cells slots Q (F0 m pc arr (.int i :: .ref a :: rest)))
    (he : am_ald (pc, (ls, st)) h lo hi f = some (Sum.inl (fr', h'))) (kk : SW p l e R s m args below meth c Q nL N0 S0 LS (SGf D dA A s) fr' h') : SW p l e R s m args below meth c Q nL N0 S0 LS (SGf D dA A s) (pc, (ls, st)) h := by
  unfold am_ald at he
  split at he
  · rename_i i a st' hs
    have hs : st = vI i :: vR (some a) :: st' := hs
    subst hs
    split at he
    · rename_i hr
      split at he
      · cases he
      · rename_i hin
        obtain ⟨rfl, rfl⟩ := am_nx_some he
        intro H locs arr ha hg hG
        obtain ⟨-, -, cell, c1, c2, c3, c4, c5, -⟩ := sc_arr hKt hG rfl (Nat.le_trans hlo hr.1) (Nat.le_trans hr.2 hhi)
        have hlt : i.toNatClampNeg < hL h' a := Nat.not_le.mp fun q => hin (Or.inr q)
        refine row (hK h' a) hr.1 hr.2 H locs _ _ a cell i (am_e (f a i.toNatClampNeg)) arr _ c1 c2 c3 (by rw [c4]; exact hin) ?_ (kk H locs arr ha hg hG)
        rw [hf a _ _ rfl hr.1 hr.2]
        exact c5 _ hlt
    · cases he
  · cases he
theorem sw_alen (hx : p.tables.exec = Jvm.exec) (hb : c.code = cc) (hKt : va_K D am_cls (am_tys dA) s) (hd : decode cc pc = .ok (.arraylength, 1)) {a : Nat} {st' : List am_V} (hs : st = vR (some a) :: st') (hr : 40 ≤ hK h a ∧ hK h a ≤ 49)
    (kk : SW p l e R s m args below meth c Q nL N0 S0 LS (SGf D dA A s) (pc + 1, (ls, vI (nI (hL h a)) :: st')) h) : SW p l e R s m args below meth c Q nL N0 S0 LS (SGf D dA A s) (pc, (ls, st)) h := by
  subst hs
  intro H locs arr ha hg hG
  obtain ⟨-, -, cell, c1, c2, c3, c4, c5, -⟩ := sc_arr hKt hG rfl hr.1 hr.2
  exact W.alen (n := nI (hL h a)) hx hb c1 c2 (by rw [c4]; rfl) rfl rfl hd (kk H locs arr ha hg hG)
/-- an array's place is written -/
theorem sc_ast {H H' : Heap} {locs : List Loc} {a i ck : Nat} {v : Value} {cell : Cell} {h2 : am_H} (hG : SGf D dA A s h H locs) (hk : hK h a = ck) (h1 : 40 ≤ ck) (h3 : ck ≤ 49) (hA : A a) (hcell : cell = arrV (dA ck) (hL h a) (am_av h ck a)) (hro : am_ro ck = false) (hlen : hL h a ≤ 1000000) (e1 : H'[a]? = some (cell.setSlot i v)) (e2 : H'.size = H.size) (e3 : ∀ q, q ≠ a → H'[q]? = H[q]?)
    (hn : hN h2 = hN h) (hk2 : ∀ b, hK h2 b = hK h b) (hl2 : ∀ b, hL h2 b = hL h b) (hi2 : ∀ b, b ≠ a → ∀ j, hI h2 b j = hI h b j) (hj2 : ∀ b, b ≠ a → ∀ j, hJ h2 b j = hJ h b j) (hr2 : ∀ b, b ≠ a → ∀ j, hR h2 b j = hR h b j)
    (hav : ∀ j, am_av h2 ck a j = updV (am_av h ck a) i v j) (hel : am_el h2 ck a) : SGf D dA A s h2 H' (locs ++ [⟨a, i⟩]) := by
  subst hcell
  rw [arrV_store] at e1
  refine ⟨hG.1.upd a e2 e3 hn hk2 hl2 hi2 hj2 hr2 (Or.inr ⟨by rw [hk]; exact h1, by rw [hk]; exact h3, ?_⟩), hG.2.put e2 e3 hA⟩
  rw [hk]
  refine ⟨by rw [hl2]; exact hlen, hel, fun _ => ?_, fun q => by rw [hro] at q; cases q⟩
  rw [e1, hl2, show am_av h2 ck a = updV (am_av h ck a) i v from funext hav]
theorem am_fit_byte {x : Int32} (hf : am_fit 5 x = true) : narrow .byte (.int x) = .int x ∧ fits .byte (.int x) = true := ⟨(am_fit_ok (ty := .byte) rfl hf).1, (am_fit_ok (ty := .byte) rfl hf).2.1⟩
theorem am_fit_bool {x : Int32} (hf : am_fit 4 x = true) : narrow .boolean (.int x) = .int x ∧ fits .boolean (.int x) = true := ⟨(am_fit_ok (ty := .boolean) rfl hf).1, (am_fit_ok (ty := .boolean) rfl hf).2.1⟩
theorem am_el_putI {a ck i : Nat} {x : Int32} (hel : am_el h ck a) (hx : ck = 43 → fits .boolean (.int x) = true) (hx2 : ck = 44 → fits .byte (.int x) = true) (h45 : ck ≠ 45) : am_el (putI h a i x) ck a := by
  intro j hj
  rw [hL_putI] at hj
  obtain ⟨g1, g2, g3⟩ := hel j hj
  rw [hI_putI]
  by_cases q : j = i
  · rw [if_pos ⟨rfl, q⟩]
    exact ⟨hx, fun z => z.elim hx2 (fun z => absurd z h45), g3⟩
  · rw [if_neg (fun z => q z.2)]
    exact ⟨g1, g2, g3⟩
theorem sw_iast {ck t : Nat} (hKt : va_K D am_cls (am_tys dA) s) (hck : (ck = 40 ∧ t = 0) ∨ (ck = 43 ∧ t = 4) ∨ (ck = 44 ∧ t = 5))
    (row : ∀ (H : Heap) (locs : List Loc) (cells slots a : Nat) (cell : Cell) (i x : Int32) (arr : Array Slot) (rest : List Value), H[a]? = some cell → s.isArrayOf cell (am_aty ck) → cell.vm ≠ .unknown → ¬ (i < 0 ∨ cell.slots.size ≤ i.toNatClampNeg) → (∀ H' : Heap, H'[a]? = some (cell.setSlot i.toNatClampNeg (narrow (am_aty ck) (.int x))) → H'.size = H.size → (∀ q, q ≠ a → H'[q]? = H[q]?) → W p l e R s m args below meth c H' (locs ++ [⟨a, i.toNatClampNeg⟩]) cells slots Q (F0 m (pc + 1) arr rest)) → W p l e R s m args below meth c H locs cells slots Q (F0 m pc arr (.int x :: .int i :: .ref a :: rest)))
    (he : am_iast (pc, (ls, st)) h ck t = some (Sum.inl (fr', h'))) (kk : SW p l e R s m args below meth c Q nL N0 S0 LS (SGf D dA A s) fr' h') : SW p l e R s m args below meth c Q nL N0 S0 LS (SGf D dA A s) (pc, (ls, st)) h := by
  unfold am_iast at he
  split at he
  · rename_i x i a st' hs
    have hs : st = vI x :: vI i :: vR (some a) :: st' := hs
    subst hs
    split at he
    · rename_i hk
      split at he
      · rename_i hf
        split at he
        · cases he
        · rename_i hin
          obtain ⟨rfl, rfl⟩ := am_nx_some he
          intro H locs arr ha hg hG
          have h40 : 40 ≤ ck ∧ ck ≤ 49 ∧ am_ro ck = false ∧ ck ≠ 42 ∧ ck ≠ 45 ∧ ck < 46 := by rcases hck with ⟨rfl, -⟩ | ⟨rfl, -⟩ | ⟨rfl, -⟩ <;> exact ⟨by decide, by decide, rfl, by decide, by decide, by decide⟩
          obtain ⟨c0, ce, cell, c1, c2, c3, c4, c5, c6⟩ := sc_arr hKt hG hk h40.1 h40.2.1
          obtain ⟨c7, c8⟩ := c6 h40.2.2.1
          have hnar : narrow (am_aty ck) (.int x) = .int x ∧ (ck = 43 → fits .boolean (.int x) = true) ∧ (ck = 44 → fits .byte (.int x) = true) := by
            rcases hck with ⟨rfl, rfl⟩ | ⟨rfl, rfl⟩ | ⟨rfl, rfl⟩
            · exact ⟨rfl, fun q => absurd q (by decide), fun q => absurd q (by decide)⟩
            · exact ⟨(am_fit_bool hf).1, fun _ => (am_fit_bool hf).2, fun q => absurd q (by decide)⟩
            · exact ⟨(am_fit_byte hf).1, fun q => absurd q (by decide), fun _ => (am_fit_byte hf).2⟩
          refine row H locs _ _ a cell i x arr _ c1 c2 c3 (by rw [c4]; exact hin) fun H' e1 e2 e3 => ?_
          rw [hnar.1] at e1
          refine kk H' _ arr ha hg (sc_ast hG hk h40.1 h40.2.1 c7 c8 h40.2.2.1 c0 e1 e2 e3 rfl (fun _ => rfl) (fun _ => rfl) (fun b hb j => by rw [hI_putI, if_neg (fun z => hb z.1)]) (fun _ _ _ => rfl) (fun _ _ _ => rfl) (fun j => ?_) (am_el_putI ce hnar.2.1 hnar.2.2 h40.2.2.2.2.1))
          simp only [am_av, if_neg h40.2.2.2.1, if_neg (Nat.not_le.mpr h40.2.2.2.2.2), updV, hI_putI]
          by_cases q : j = i.toNatClampNeg
          · rw [if_pos q, if_pos ⟨trivial, q⟩]
          · rw [if_neg q, if_neg (fun z => q z.2)]
      · cases he
    · cases he
  · cases he
theorem sw_last (hx : p.tables.exec = Jvm.exec) (hb : c.code = cc) (hKt : va_K D am_cls (am_tys dA) s) (hd : decode cc pc = .ok (.lastore, 1))
    (he : am_last (pc, (ls, st)) h = some (Sum.inl (fr', h'))) (kk : SW p l e R s m args below meth c Q nL N0 S0 LS (SGf D dA A s) fr' h') : SW p l e R s m args below meth c Q nL N0 S0 LS (SGf D dA A s) (pc, (ls, st)) h := by
  unfold am_last at he
  split at he
  · rename_i x i a st' hs
    have hs : st = vL x :: vI i :: vR (some a) :: st' := hs
    subst hs
    split at he
    · rename_i hk
      split at he
      · cases he
      · rename_i hin
        obtain ⟨rfl, rfl⟩ := am_nx_some he
        intro H locs arr ha hg hG
        obtain ⟨c0, ce, cell, c1, c2, c3, c4, c5, c6⟩ := sc_arr hKt hG hk (by decide) (by decide)
        obtain ⟨c7, c8⟩ := c6 rfl
        refine W.last hx hb c1 c2 c3 (by rw [c4]; exact hin) rfl rfl hd fun H' e1 e2 e3 => ?_
        refine kk H' _ arr ha hg (sc_ast hG hk (by decide) (by decide) c7 c8 rfl c0 e1 e2 e3 rfl (fun _ => rfl) (fun _ => rfl) (fun _ _ _ => rfl) (fun b hb j => by rw [hJ_putJ, if_neg (fun z => hb z.1)]) (fun _ _ _ => rfl) (fun j => ?_) (fun j hj => ce j hj))
        simp only [am_av, if_true, updV, hJ_putJ]
        by_cases q : j = i.toNatClampNeg
        · rw [if_pos q, if_pos ⟨trivial, q⟩]
        · rw [if_neg q, if_neg (fun z => q z.2)]
    · cases he
  · cases he
end SIMF
