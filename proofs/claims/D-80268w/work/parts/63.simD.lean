/-! THE SIMULATION, part D: fields, new, arrays -/
def SXf (U : State) : Prop := ∀ (a : String) (i : Nat) (b n d h : String), Cond.fieldLinkNest a i b n d h ∈ lw_tbl → va_Nw (.fieldLinkNest a i b n d h) U
def SXm (U : State) : Prop := ∀ (a : String) (i : Nat) (x : MethodName) (h : String), Cond.methodLinkNest a i x h ∈ lw_tbl → va_Nw (.methodLinkNest a i x h) U
theorem SXf.warm {s U : State} (hW : s.WarmedH U.vm) (k : SXf s) : SXf U := fun a i b n d h q => va_Nw.warmF hW (k a i b n d h q)
theorem SXm.warm {s U : State} (hW : s.WarmedH U.vm) (k : SXm s) : SXm U := fun a i x h q => va_Nw.warmM hW (k a i x h q)
def am_tc (ty : FieldType) : Nat := match ty with
  | .long => 1
  | .float => 3
  | .double => 9
  | .object _ => 2
  | .array _ => 2
  | .boolean => 4
  | .byte => 5
  | .char => 6
  | .short => 9
  | .int => 0
/-- a field's site: the link, and every kind of the range has that field at that place, of that type; final fields: in their own constructors -/
def am_VF (own : String) (idx lo hi k : Nat) (tok : FieldType → Prop) (fin : vw_C → Prop) : Prop := ∃ ref name desc : String, (Cond.fieldLink own idx ref name desc ∈ lw_all ∨ ∃ host, Cond.fieldLinkNest own idx ref name desc host ∈ lw_tbl) ∧
  ∀ c, lo ≤ c → c ≤ hi → c ≠ 0 ∧ c < 40 ∧ c ≠ 23 ∧ ∃ q, am_cls[c]? = some q ∧ k < q.2.2 ∧ (q.2.1 k).2.1 = name ∧ (q.2.1 k).2.2.1 = desc ∧ ((q.2.1 k).1 = ref ∨ Cond.sameField ref (q.2.1 k).1 name desc ∈ lw_all) ∧ tok (am_fty c k) ∧ fin q
section SIMD
variable {p : Program} {l : Launch} {e : Env} {R : Room} {s : State} {m : MethodId} {args : Array Value} {below : List Frame} {meth : Method} {c : Code} {cc : ByteArray} {Q : State → Prop} {nL N0 S0 : Nat} {LS : List Nat}
variable {pc : Nat} {ls : List (Option am_V)} {st : List am_V} {h h' : am_H} {fr' : am_F} {D : va_G} {dA : Nat → ClassId} {A : Nat → Prop} {own : String}
/-- what holds of the heap all through a method's body -/
def SGf (D : va_G) (dA : Nat → ClassId) (A : Nat → Prop) (s : State) (h : am_H) (H : Heap) (locs : List Loc) : Prop := SH D dA A s h H ∧ va_S A s.heap H locs
/-- what a method's body has of the tables -/
def SC (p : Program) (s : State) (m : MethodId) (args : Array Value) (c : Code) (cc : ByteArray) (own : String) (D : va_G) (dA : Nat → ClassId) : Prop := p.tables.exec = Jvm.exec ∧ c.code = cc ∧ s.vm.findClass own = some m.cls ∧ (∀ w ∈ lw_all, w.before args s = true) ∧ SXf s ∧ va_K D am_cls (am_tys dA) s
theorem sc_get {H : Heap} {locs : List Loc} {cells slots idx : Nat} {ref name desc : String} (C : SC p s m args c cc own D dA) (hl : Cond.fieldLink own idx ref name desc ∈ lw_all ∨ ∃ host, Cond.fieldLinkNest own idx ref name desc host ∈ lw_tbl)
    {cf i : Nat} {k : Class} {f : Field} (hi : s.fieldFound? ref name desc = some (cf, k, i, f)) (hst : f.isStatic = false) {a : Addr} {cell : Cell} {v : Value} (hcell : H[a]? = some cell) (hknown : cell.vm ≠ .unknown) (hslot : cell.slots[f.slot]? = some v)
    {arr : Array Slot} {rest : List Value} (hdg : decode cc pc = .ok (.getfield idx, 3)) (kk : W p l e R s m args below meth c H locs cells slots Q (F0 m (pc + 3) arr (v :: rest))) : W p l e R s m args below meth c H locs cells slots Q (F0 m pc arr (.ref a :: rest)) := by
  obtain ⟨hx, hb, hown, hts, hsx, -⟩ := C
  rcases hl with hl | ⟨host, hl⟩
  · exact W.getf hx hb hown (hts _ hl) hi hst hcell hknown hslot rfl rfl hdg kk
  · exact va_Wgetf hx hb hown (va_Nw.use rfl (hsx _ _ _ _ _ _ hl)) hi hst hcell hknown hslot rfl rfl hdg kk
theorem sc_put {H : Heap} {locs : List Loc} {cells slots idx : Nat} {ref name desc : String} (C : SC p s m args c cc own D dA) (hl : Cond.fieldLink own idx ref name desc ∈ lw_all ∨ ∃ host, Cond.fieldLinkNest own idx ref name desc host ∈ lw_tbl)
    {cf i : Nat} {k : Class} {f : Field} (hi : s.fieldFound? ref name desc = some (cf, k, i, f)) (hst : f.isStatic = false) (hfin : hasFlag f.accessFlags Acc.final = false ∨ (m.cls = cf ∧ meth.name = "<init>")) {a : Addr} {cell : Cell} {v : Value} (hcell : H[a]? = some cell) (hvm : cell.vm = .none) (hlt : f.slot < cell.slots.size) (hnarrow : narrow f.type v = v) (hfit : s.fitsSlot cell.cls .none f.slot v = true)
    {arr : Array Slot} {rest : List Value} (hdg : decode cc pc = .ok (.putfield idx, 3)) (kk : ∀ H' : Heap, H'[a]? = some (cell.setSlot f.slot v) → H'.size = H.size → (∀ q, q ≠ a → H'[q]? = H[q]?) → W p l e R s m args below meth c H' (locs ++ [⟨a, f.slot⟩]) cells slots Q (F0 m (pc + 3) arr rest)) : W p l e R s m args below meth c H locs cells slots Q (F0 m pc arr (v :: .ref a :: rest)) := by
  obtain ⟨hx, hb, hown, hts, hsx, -⟩ := C
  have ha : a < H.size := (Array.getElem?_eq_some_iff.mp hcell).1
  have kk' := kk (H.setIfInBounds a (cell.setSlot f.slot v)) (by simp [Array.getElem?_setIfInBounds, ha]) (by simp) (fun q hq => by simp [Array.getElem?_setIfInBounds, Ne.symm hq])
  rcases hl with hl | ⟨host, hl⟩
  · exact W.putf hx hb hown (hts _ hl) hi hst hfin hcell (by rw [hvm]; exact fun h => by cases h) hlt hnarrow (by rw [hvm]; exact hfit) rfl rfl hdg kk'
  · exact va_Wputf hx hb hown (va_Nw.use rfl (hsx _ _ _ _ _ _ hl)) hi hst hfin hcell (by rw [hvm]; exact fun h => by cases h) hlt hnarrow (by rw [hvm]; exact hfit) rfl rfl hdg kk'
theorem am_fv_i {h : am_H} {a k : Nat} {ty : FieldType} (ht : am_tc ty = 0 ∨ am_tc ty = 4 ∨ am_tc ty = 5 ∨ am_tc ty = 6) : am_fv h a k ty = some (.int (hI h a k)) := by
  cases ty <;> first | rfl | simp [am_tc] at ht
theorem am_fv_r {h : am_H} {a k : Nat} {ty : FieldType} (ht : am_tc ty = 2) : am_fv h a k ty = some (va_rf (hR h a k)) := by
  cases ty <;> first | rfl | simp [am_tc] at ht
theorem am_fv_j {h : am_H} {a k : Nat} {ty : FieldType} (ht : am_tc ty = 1) : am_fv h a k ty = some (.long (hJ h a k)) := by
  cases ty <;> first | rfl | simp [am_tc] at ht
/-- the object at a, its field k by the tables -/
theorem sc_field {H : Heap} {locs : List Loc} {ref name desc : String} {ck k a : Nat} {q : vw_C} (C : SC p s m args c cc own D dA) (hc : am_cls[ck]? = some q) (hk : k < q.2.2) (e1 : (q.2.1 k).2.1 = name) (e2 : (q.2.1 k).2.2.1 = desc) (e3 : (q.2.1 k).1 = ref ∨ Cond.sameField ref (q.2.1 k).1 name desc ∈ lw_all) :
    ∃ (cf i : Nat) (kf : Class) (f : Field) (kC : Class), s.fieldFound? ref name desc = some (cf, kf, i, f) ∧ s.fieldFound? (q.2.1 k).1 (q.2.1 k).2.1 (q.2.1 k).2.2.1 = some (cf, kf, i, f) ∧ f.isStatic = false ∧ f.slot = D.2 ck k ∧ f.type = am_fty ck k ∧ s.vm.findClass q.1 = some (D.1 ck) ∧ s.vm.classes[D.1 ck]? = some kC ∧ kC.kind = .ordinary ∧ ((Cond.lays q.1 (q.2.1 k).1 (q.2.1 k).2.1 (q.2.1 k).2.2.1).before args s = true ∨ (Cond.laysFinal q.1 (q.2.1 k).1 (q.2.1 k).2.1 (q.2.1 k).2.2.1).before args s = true) := by
  obtain ⟨hx, hb, hown, hts, hsx, hK⟩ := C
  obtain ⟨hS, hfc, kC, hkC, hkind⟩ := hK.1 ck q hc
  obtain ⟨cf, kf, fi, f, hi, hsl⟩ := hS k hk
  have hlay := u_lays hts (am_cls_in ck q hc) hk
  refine ⟨cf, fi, kf, f, kC, ?_, hi, (u_facts hfc hkC hlay hi).1, hsl, (State.fieldFound?_type hi (am_cls_ty ck q hc k hk)).2, hfc, hkC, hkind, hlay⟩
  rw [e1, e2] at hi
  rcases e3 with e3 | e3
  · rw [e3] at hi; exact hi
  · exact u_same (hts _ e3) _ hi
theorem sw_getf {idx lo hi k t len : Nat} {tt : List (Nat × Nat)} (C : SC p s m args c cc own D dA) (V : am_VF own idx lo hi k (fun ty => (t = 0 ∧ (am_tc ty = 0 ∨ am_tc ty = 4 ∨ am_tc ty = 5 ∨ am_tc ty = 6)) ∨ (t = 1 ∧ am_tc ty = 1) ∨ (t = 2 ∧ am_tc ty = 2)) (fun _ => True)) (hd : decode cc pc = .ok (.getfield idx, 3))
    (he : am_getf (pc, (ls, st)) h [lo, hi, k, t] = some (Sum.inl (fr', h'))) (kk : SW p l e R s m args below meth c Q nL N0 S0 LS (SGf D dA A s) fr' h') : SW p l e R s m args below meth c Q nL N0 S0 LS (SGf D dA A s) (pc, (ls, st)) h := by
  unfold am_getf at he
  split at he
  · rename_i lo hi k t a st' e1 hs
    have hs : st = vR (some a) :: st' := hs
    subst hs
    simp only [List.cons.injEq, and_true] at e1
    obtain ⟨rfl, rfl, rfl, rfl⟩ := e1
    split at he
    · rename_i hr
      obtain ⟨ref, name, desc, hl, V⟩ := V
      obtain ⟨c0, c40, c23, q, hq, hk, g1, g2, g3, g4, -⟩ := V (hK h a) hr.1 hr.2
      intro H locs arr ha hg hG
      obtain ⟨cf, i, kf, f, kC, f1, f1', f2, f3, f4, -⟩ := sc_field (H := H) (locs := locs) (a := a) C hq hk g1 g2 g3
      have hcell := (hG.1.2 a _ rfl c0).2
      rcases hcell with ⟨-, -, cell, q', z1, z2, z3, z4, z5, z6, z7⟩ | ⟨z, -⟩ | ⟨z, -⟩
      · cases hq.symm.trans z1
        obtain ⟨v, v1, v2⟩ := z7 k hk
        have row : ∀ w, am_fv h a k (am_fty (hK h a) k) = some w → W p l e R s m args below meth c H locs (hN h - N0) (hS h - S0) Q (F0 m (pc + 3) arr (w :: st'.map am_e)) → W p l e R s m args below meth c H locs (hN h - N0) (hS h - S0) Q (F0 m pc arr (.ref a :: st'.map am_e)) := fun w hw kw =>
          sc_get C hl f1 f2 z2 z4 (by rw [f3, v1, v2 w hw]) hd kw
        rcases g4 with ⟨rfl, g4⟩ | ⟨rfl, g4⟩ | ⟨rfl, g4⟩
        · obtain ⟨rfl, rfl⟩ := am_nx_some he
          exact row _ (am_fv_i g4) (kk H locs arr ha hg hG)
        · obtain ⟨rfl, rfl⟩ := am_nx_some he
          exact row _ (am_fv_j g4) (kk H locs arr ha hg hG)
        · obtain ⟨rfl, rfl⟩ := am_nx_some he
          exact row _ (am_fv_r g4) (kk H locs arr ha hg hG)
      · omega
      · omega
    · cases he
  · cases he
end SIMD
