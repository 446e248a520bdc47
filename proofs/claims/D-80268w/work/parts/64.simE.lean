/-! THE SIMULATION, part E: stores to fields, new, arrays -/
theorem am_fit_ok {ty : FieldType} {x : Int32} {t : Nat} (ht : am_tc ty = t) (hf : am_fit t x = true) : narrow ty (.int x) = .int x ∧ fits ty (.int x) = true ∧ (am_tc ty = 0 ∨ am_tc ty = 4 ∨ am_tc ty = 5 ∨ am_tc ty = 6) := by
  subst ht
  cases ty with
  | int => exact ⟨rfl, rfl, Or.inl rfl⟩
  | boolean =>
    have hf : x = 0 ∨ x = 1 := of_decide_eq_true hf
    rcases hf with rfl | rfl
    · exact ⟨rfl, rfl, Or.inr (Or.inl rfl)⟩
    · exact ⟨rfl, rfl, Or.inr (Or.inl rfl)⟩
  | byte =>
    have hf : x.toInt8.toInt32 = x := of_decide_eq_true hf
    refine ⟨by show Value.int x.toInt8.toInt32 = _; rw [hf], ?_, Or.inr (Or.inr (Or.inl rfl))⟩
    rw [← hf]
    exact pk_fb x
  | char =>
    have hf : (x.toUInt32 % 65536).toInt32 = x := of_decide_eq_true hf
    refine ⟨?_, ?_, Or.inr (Or.inr (Or.inr rfl))⟩
    · rw [← hf]; exact pk_nc x
    · rw [← hf]; exact pk_fc x
  | _ => cases hf
theorem am_ref_ok {ty : FieldType} (z : Option Nat) (ht : am_tc ty = 2) : narrow ty (va_rf z) = va_rf z ∧ fits ty (va_rf z) = true := by
  cases ty <;> first | (cases z <;> exact ⟨rfl, rfl⟩) | simp [am_tc] at ht
theorem am_long_ok {ty : FieldType} (y : Int64) (ht : am_tc ty = 1) : narrow ty (.long y) = .long y ∧ fits ty (.long y) = true := by
  cases ty <;> first | exact ⟨rfl, rfl⟩ | simp [am_tc] at ht
theorem am_float_ok {ty : FieldType} (y : UInt32) (ht : am_tc ty = 3) : narrow ty (.float y) = .float y ∧ fits ty (.float y) = true := by
  cases ty <;> first | exact ⟨rfl, rfl⟩ | simp [am_tc] at ht
theorem am_fv_f {h : am_H} {a k : Nat} {ty : FieldType} (ht : am_tc ty = 3) : am_fv h a k ty = none := by
  cases ty <;> first | rfl | simp [am_tc] at ht
section SIME
variable {p : Program} {l : Launch} {e : Env} {R : Room} {s : State} {m : MethodId} {args : Array Value} {below : List Frame} {meth : Method} {c : Code} {cc : ByteArray} {Q : State → Prop} {nL N0 S0 : Nat} {LS : List Nat}
variable {pc : Nat} {ls : List (Option am_V)} {st : List am_V} {h h' : am_H} {fr' : am_F} {D : va_G} {dA : Nat → ClassId} {A : Nat → Prop} {own : String}
/-- one field of one object is written: the machine's side -/
theorem sc_store {H : Heap} {locs : List Loc} {cells slots idx lo hi k a : Nat} {v : Value} {tok : FieldType → Prop} {ini : Bool} {arr : Array Slot} {rest : List Value} (C : SC p s m args c cc own D dA) (V : am_VF own idx lo hi k tok (fun q => (q.2.1 k).2.2.2 = false ∨ ((q.2.1 k).2.2.2 = true ∧ (q.2.1 k).1 = own ∧ ini = true))) (hini : ini = true → meth.name = "<init>")
    (hro : ∀ x, lo ≤ x → x ≤ hi → am_ro x = false) (hr : lo ≤ hK h a ∧ hK h a ≤ hi) (hG : SGf D dA A s h H locs) (hv : tok (am_fty (hK h a) k) → narrow (am_fty (hK h a) k) v = v ∧ fits (am_fty (hK h a) k) v = true) (hd : decode cc pc = .ok (.putfield idx, 3))
    {h2 : am_H} (hn : hN h2 = hN h) (hk : ∀ b, hK h2 b = hK h b) (hl : ∀ b, hL h2 b = hL h b) (hi2 : ∀ b, b ≠ a → ∀ j, hI h2 b j = hI h b j) (hj2 : ∀ b, b ≠ a → ∀ j, hJ h2 b j = hJ h b j) (hr2 : ∀ b, b ≠ a → ∀ j, hR h2 b j = hR h b j)
    (hsame : tok (am_fty (hK h a) k) → ∀ j, j ≠ k → am_fv h2 a j (am_fty (hK h a) j) = am_fv h a j (am_fty (hK h a) j)) (hnew : tok (am_fty (hK h a) k) → ∀ w, am_fv h2 a k (am_fty (hK h a) k) = some w → v = w)
    (kk : ∀ (H' : Heap) (locs' : List Loc), SGf D dA A s h2 H' locs' → W p l e R s m args below meth c H' locs' cells slots Q (F0 m (pc + 3) arr rest)) : W p l e R s m args below meth c H locs cells slots Q (F0 m pc arr (v :: .ref a :: rest)) := by
  obtain ⟨ref, name, desc, hlk, V⟩ := V
  obtain ⟨c0, c40, c23, q, hq, hk', g1, g2, g3, g4, g5⟩ := V (hK h a) hr.1 hr.2
  obtain ⟨cf, i, kf, f, kC, f1, f1', f2, f3, f4, f5, f6, f7, f8⟩ := sc_field (H := H) (locs := locs) (a := a) C hq hk' g1 g2 g3
  have hro1 := hro _ hr.1 hr.2
  obtain ⟨hA, hcell⟩ := hG.1.2 a _ rfl c0
  rcases hcell with ⟨-, -, cell, q', z1, z2, z3, z4, z5, z6, z7⟩ | ⟨z, -⟩ | ⟨z, -⟩
  · cases hq.symm.trans z1
    have hvm := z6 hro1
    obtain ⟨v0, v1, -⟩ := z7 k hk'
    obtain ⟨hnar, hfit⟩ := hv g4
    have hty := am_cls_ty _ q hq k hk'
    have hb6 := u_fits f5 f6 f7 f8 f1' hty hnar hfit
    have hfin : hasFlag f.accessFlags Acc.final = false ∨ (m.cls = cf ∧ meth.name = "<init>") := by
      have hlay := C.2.2.2.1 _ (am_cls_in _ q hq _ (u_in_lay hk'))
      unfold u_lay at hlay
      rcases g5 with g5 | ⟨g5, g6, g7⟩
      · rw [if_neg (by rw [g5]; decide)] at hlay
        exact Or.inl (u_store f5 f6 f7 hlay f1' hty hnar hfit).1
      · rw [if_pos g5] at hlay
        refine Or.inr ⟨?_, hini g7⟩
        obtain ⟨_, _, c', _, _, _, -, -, hf', -, -, -, hown2, -⟩ := Cond.laysFinal_spec hlay
        have e1 : c' = cf := by have := f1'.symm.trans hf'; simp at this; exact this.1.symm
        rw [g6] at hown2
        rw [← e1]
        exact Option.some.inj (C.2.2.1.symm.trans hown2)
    refine sc_put C hlk f1 f2 hfin z2 hvm (by rw [f3]; exact k2_hasslot v1) hb6.1 (by rw [z3]; exact hb6.2) hd fun H' e1 e2 e3 => ?_
    rw [f3] at e1 ⊢
    refine kk H' _ ⟨hG.1.upd a e2 e3 hn hk hl hi2 hj2 hr2 (Or.inl ⟨c40, c23, ?_⟩), hG.2.put e2 e3 (hA hro1)⟩
    have hap := va_apart (own := own) C.2.2.2.1 (am_cls_in _ q hq) (am_fty (hK h a)) (am_cls_ty _ q hq) (am_cls_nm _ q hq) C.2.2.2.2.2 hq
    have hV : ∀ j, j < q.2.2 → cell.slots[D.2 (hK h a) j]? = some ((cell.slots[D.2 (hK h a) j]?).getD .null) := fun j hj => by
      obtain ⟨w, w1, -⟩ := z7 j hj
      rw [w1]; rfl
    have hset := t_set hV hap hk' v
    refine ⟨_, q, hq, e1, z3, by rw [show (cell.setSlot (D.2 (hK h a) k) v).vm = cell.vm from rfl]; exact z4, by rw [show (cell.setSlot (D.2 (hK h a) k) v).vm = cell.vm from rfl]; exact z5, fun _ => by rw [show (cell.setSlot (D.2 (hK h a) k) v).vm = cell.vm from rfl]; exact hvm, fun j hj => ?_⟩
    refine ⟨_, hset j hj, fun w hw => ?_⟩
    by_cases hjk : j = k
    · subst hjk
      simp only [updV, if_true]
      exact hnew g4 w hw
    · rw [hsame g4 j hjk] at hw
      obtain ⟨w0, w1, w2⟩ := z7 j hj
      simp only [updV, if_neg hjk, w1, Option.getD_some]
      exact w2 w hw
  · omega
  · omega
theorem am_fv_congr {h h2 : am_H} {a j : Nat} {ty : FieldType} (h1 : hI h2 a j = hI h a j) (h3 : hJ h2 a j = hJ h a j) (h4 : hR h2 a j = hR h a j) : am_fv h2 a j ty = am_fv h a j ty := by
  cases ty <;> simp only [am_fv, h1, h3, h4]
theorem sw_putf {idx lo hi k t : Nat} {ini : Bool} (C : SC p s m args c cc own D dA) (V : am_VF own idx lo hi k (fun ty => am_tc ty = t) (fun q => (q.2.1 k).2.2.2 = false ∨ ((q.2.1 k).2.2.2 = true ∧ (q.2.1 k).1 = own ∧ ini = true))) (hini : ini = true → meth.name = "<init>") (hro : ∀ x, lo ≤ x → x ≤ hi → am_ro x = false) (hd : decode cc pc = .ok (.putfield idx, 3))
    (he : am_putf (pc, (ls, st)) h [lo, hi, k, t] = some (Sum.inl (fr', h'))) (kk : SW p l e R s m args below meth c Q nL N0 S0 LS (SGf D dA A s) fr' h') : SW p l e R s m args below meth c Q nL N0 S0 LS (SGf D dA A s) (pc, (ls, st)) h := by
  unfold am_putf at he
  split at he
  · rename_i lo hi k t v a st' e1 hs
    have hs : st = v :: vR (some a) :: st' := hs
    subst hs
    simp only [List.cons.injEq, and_true] at e1
    obtain ⟨rfl, rfl, rfl, rfl⟩ := e1
    split at he
    · rename_i hr
      intro H locs arr ha hg hG
      split at he
      · rename_i x
        split at he
        · rename_i hf
          obtain ⟨rfl, rfl⟩ := am_nx_some he
          refine sc_store (h2 := putI h a k x) C V hini hro hr hG (fun ht => ⟨(am_fit_ok ht hf).1, (am_fit_ok ht hf).2.1⟩) hd rfl (fun _ => rfl) (fun _ => rfl) (fun b hb j => by rw [hI_putI, if_neg (fun z => hb z.1)]) (fun _ _ _ => rfl) (fun _ _ _ => rfl)
            (fun _ j hj => am_fv_congr (by rw [hI_putI, if_neg (fun z => hj z.2)]) rfl rfl) (fun ht w hw => ?_) (fun H' locs' hG' => kk H' locs' arr ha hg hG')
          rw [am_fv_i (am_fit_ok ht hf).2.2, hI_putI, if_pos ⟨rfl, rfl⟩] at hw
          exact Option.some.inj hw
        · cases he
      · rename_i x
        split at he
        · rename_i hf
          obtain ⟨rfl, rfl⟩ := am_nx_some he
          refine sc_store (h2 := putJ h a k x) C V hini hro hr hG (fun ht => am_long_ok x (ht.trans hf)) hd rfl (fun _ => rfl) (fun _ => rfl) (fun _ _ _ => rfl) (fun b hb j => by rw [hJ_putJ, if_neg (fun z => hb z.1)]) (fun _ _ _ => rfl)
            (fun _ j hj => am_fv_congr rfl (by rw [hJ_putJ, if_neg (fun z => hj z.2)]) rfl) (fun ht w hw => ?_) (fun H' locs' hG' => kk H' locs' arr ha hg hG')
          rw [am_fv_j (ht.trans hf), hJ_putJ, if_pos ⟨rfl, rfl⟩] at hw
          exact Option.some.inj hw
        · cases he
      · rename_i x
        split at he
        · rename_i hf
          obtain ⟨rfl, rfl⟩ := am_nx_some he
          refine sc_store (h2 := putR h a k x) C V hini hro hr hG (fun ht => am_ref_ok x (ht.trans hf)) hd rfl (fun _ => rfl) (fun _ => rfl) (fun _ _ _ => rfl) (fun _ _ _ => rfl) (fun b hb j => by rw [hR_putR, if_neg (fun z => hb z.1)])
            (fun _ j hj => am_fv_congr rfl rfl (by rw [hR_putR, if_neg (fun z => hj z.2)])) (fun ht w hw => ?_) (fun H' locs' hG' => kk H' locs' arr ha hg hG')
          rw [am_fv_r (ht.trans hf), hR_putR, if_pos ⟨rfl, rfl⟩] at hw
          exact Option.some.inj hw
        · cases he
      · rename_i x
        split at he
        · rename_i hf
          obtain ⟨rfl, rfl⟩ := am_nx_some he
          refine sc_store (h2 := h') C V hini hro hr hG (fun ht => am_float_ok x (ht.trans hf)) hd rfl (fun _ => rfl) (fun _ => rfl) (fun _ _ _ => rfl) (fun _ _ _ => rfl) (fun _ _ _ => rfl)
            (fun _ j hj => rfl) (fun ht w hw => ?_) (fun H' locs' hG' => kk H' locs' arr ha hg hG')
          rw [am_fv_f (ht.trans hf)] at hw
          cases hw
        · cases he
    · cases he
  · cases he
/-- a site of 'new': the class by its kind -/
def am_VN (own : String) (idx ck n : Nat) : Prop := ∃ q, am_cls[ck]? = some q ∧ q.2.2 = n ∧ Cond.classLink own idx q.1 ∈ lw_all ∧ Cond.instantiable q.1 n ∈ lw_all ∧ Cond.initialized q.1 ∈ lw_all ∧ ck ≠ 0 ∧ ck < 40 ∧ ck ≠ 23 ∧ am_ro ck = false
theorem sw_new {idx ck n : Nat} (C : SC p s m args c cc own D dA) (V : am_VN own idx ck n) (hAs : ∀ q : Nat, s.heap.size ≤ q → A q) (hN0 : N0 ≤ hN h) (hS0 : S0 ≤ hS h) (hrc : hN h' - N0 ≤ R.cells) (hrs : hS h' - S0 ≤ R.slots) (hd : decode cc pc = .ok (.new idx, 3))
    (he : am_nx (pc, (ls, st)) (newC h ck n) 3 (Sum.inr (Sum.inr (Sum.inl (some (hN h)))) :: st) = some (Sum.inl (fr', h'))) (kk : SW p l e R s m args below meth c Q nL N0 S0 LS (SGf D dA A s) fr' h') : SW p l e R s m args below meth c Q nL N0 S0 LS (SGf D dA A s) (pc, (ls, st)) h := by
  obtain ⟨rfl, rfl⟩ := am_nx_some he
  obtain ⟨q, hq, rfl, v1, v2, v3, v4, v5, v6, v7⟩ := V
  obtain ⟨hx, hb, hown, hts, hsx, hK⟩ := C
  intro H locs arr ha hg hG
  have hKn := hK.1 ck q hq
  rw [hN_newC] at hrc
  rw [hS_newC] at hrs
  refine W.newcK hx hb hown (hts _ v1) (hts _ v2) (hts _ v3) rfl hd (by omega) (by omega) hKn.2.1 rfl fun H1 kC hkC e1 z1 o1 => ?_
  have hb' := u_born (am_fty ck) hts (am_cls_in ck q hq) hKn hkC e1 (am_cls_ty ck q hq)
  have hk1 := kk H1 locs arr ha hg ⟨hG.1.new (c := ck) (n := q.2.2) v4 (hAs _ hG.2.1) z1 o1 (Or.inl ⟨v5, v6, ?_⟩), ⟨Nat.le_trans hG.2.1 (by omega), fun x h1 h2 => (o1 x (Nat.lt_of_lt_of_le h1 hG.2.1)).trans (hG.2.2.1 x h1 h2), hG.2.2.2⟩⟩
  · rw [hN_newC, hS_newC] at hk1
    rw [show hN h - N0 + 1 = hN h + 1 - N0 by omega, show hS h - S0 + q.2.2 = hS h + q.2.2 - S0 by omega]
    have e9 : hN h = H.size := hG.1.1
    rw [e9] at hk1 ⊢
    exact hk1
  · obtain ⟨cell, b1, b2, b3, b4⟩ := hb'
    refine ⟨cell, q, hq, b1, b2, by rw [b3]; exact (fun z => by cases z), by rw [b3]; rfl, fun _ => b3, fun j hj => ⟨_, b4 j hj, fun w hw => ?_⟩⟩
    have e9 : hN h = H.size := hG.1.1
    cases hty : am_fty ck j <;> rw [hty] at hw <;> simp only [am_fv, hI_newC, hJ_newC, hR_newC, e9, if_true] at hw <;> cases hw <;> (show defaultValue (am_fty ck j) = _) <;> rw [hty] <;> rfl
end SIME
