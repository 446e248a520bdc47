/-! THE SIMULATION, part C: the heap's relation, fields, arrays, new -/
def am_fv (h : am_H) (a k : Nat) (ty : FieldType) : Option Value := match ty with
  | .long => some (.long (hJ h a k))
  | .float => none
  | .double => none
  | .object _ => some (va_rf (hR h a k))
  | .array _ => some (va_rf (hR h a k))
  | _ => some (.int (hI h a k))
/-- kinds that are never written -/
def am_ro (c : Nat) : Bool := c == 9 || c == 11 || c == 23 || c == 41 || c == 45 || c == 47 || c == 49
def am_ob (D : va_G) (h : am_H) (c a : Nat) (H : Heap) : Prop := ∃ (cell : Cell) (q : vw_C), am_cls[c]? = some q ∧ H[a]? = some cell ∧ cell.cls = D.1 c ∧ cell.vm ≠ .unknown ∧ cell.vm.isStatics = false ∧ (am_ro c = false → cell.vm = .none) ∧
  ∀ k, k < q.2.2 → ∃ v, cell.slots[D.2 c k]? = some v ∧ ∀ w, am_fv h a k (am_fty c k) = some w → v = w
def am_av (h : am_H) (c a j : Nat) : Value := if c = 42 then .long (hJ h a j) else if 46 ≤ c then va_rf (hR h a j) else .int (hI h a j)
def am_aty (c : Nat) : FieldType := if c ≤ 41 then .int else if c = 42 then .long else if c = 43 then .boolean else if c ≤ 45 then .byte else if c ≤ 47 then .object "java/lang/Object" else if c = 48 then .object "java/util/HashMap$Node" else .object "java/lang/Integer"
def am_el (h : am_H) (c a : Nat) : Prop := ∀ j, j < hL h a → (c = 43 → fits .boolean (.int (hI h a j)) = true) ∧ ((c = 44 ∨ c = 45) → fits .byte (.int (hI h a j)) = true) ∧ (46 ≤ c → ∀ b, hR h a j = some b → 0 < hK h b ∧ hK h b < 40)
def am_ar (dA : Nat → ClassId) (h : am_H) (s : State) (c a : Nat) (H : Heap) : Prop := hL h a ≤ 1000000 ∧ am_el h c a ∧ (am_ro c = false → H[a]? = some (arrV (dA c) (hL h a) (am_av h c a))) ∧
  (am_ro c = true → ∃ cell : Cell, H[a]? = some cell ∧ s.isArrayOf cell (am_aty c) ∧ cell.vm ≠ .unknown ∧ cell.slots.size = hL h a ∧ (∀ j, j < hL h a → cell.slots[j]? = some (am_av h c a j)) ∧ (c = 45 ∨ c = 47 → s.vm.findClass ("[" ++ (am_aty c).toString) = some cell.cls))
def am_us (s : State) (a : Nat) (H : Heap) : Prop := ∃ cell : Cell, H[a]? = some cell ∧ cell.vm.isStatics = false ∧ s.vm.findClass "jdk/internal/misc/Unsafe" = some cell.cls
def SH (D : va_G) (dA : Nat → ClassId) (A : Nat → Prop) (s : State) (h : am_H) (H : Heap) : Prop := hN h = H.size ∧ ∀ (a c : Nat), hK h a = c → c ≠ 0 → (am_ro c = false → A a) ∧ ((c < 40 ∧ c ≠ 23 ∧ am_ob D h c a H) ∨ (40 ≤ c ∧ c ≤ 49 ∧ am_ar dA h s c a H) ∨ (c = 23 ∧ am_us s a H))
/-- the array classes by kind -/
def am_tys (dA : Nat → ClassId) : List (ClassId × FieldType) := [(dA 40, .int), (dA 42, .long), (dA 43, .boolean), (dA 44, .byte), (dA 46, .object "java/lang/Object"), (dA 48, .object "java/util/HashMap$Node")]
theorem am_ob_kept {D : va_G} {h h' : am_H} {c a : Nat} {H H' : Heap} (k : am_ob D h c a H) (e : H'[a]? = H[a]?) (hi : ∀ j, hI h' a j = hI h a j) (hj : ∀ j, hJ h' a j = hJ h a j) (hr : ∀ j, hR h' a j = hR h a j) : am_ob D h' c a H' := by
  obtain ⟨cell, q, k1, k2, k3, k4, k5, k6, k7⟩ := k
  refine ⟨cell, q, k1, by rw [e]; exact k2, k3, k4, k5, k6, fun j hj' => ?_⟩
  obtain ⟨v, v1, v2⟩ := k7 j hj'
  refine ⟨v, v1, fun w hw => v2 w ?_⟩
  rw [← hw]
  unfold am_fv
  split <;> simp only [hi, hj, hr]
theorem am_av_kept {h h' : am_H} {c a j : Nat} (hi : hI h' a j = hI h a j) (hj : hJ h' a j = hJ h a j) (hr : hR h' a j = hR h a j) : am_av h' c a j = am_av h c a j := by
  unfold am_av
  rw [hi, hj, hr]
theorem am_ar_kept {dA : Nat → ClassId} {s : State} {h h' : am_H} {c a : Nat} {H H' : Heap} (k : am_ar dA h s c a H) (e : H'[a]? = H[a]?) (hl : hL h' a = hL h a) (hi : ∀ j, hI h' a j = hI h a j) (hj : ∀ j, hJ h' a j = hJ h a j) (hr : ∀ j, hR h' a j = hR h a j) (hk : ∀ b, (0 < hK h b ∧ hK h b < 40) → 0 < hK h' b ∧ hK h' b < 40) : am_ar dA h' s c a H' := by
  obtain ⟨k1, k2, k3, k4⟩ := k
  have ev : am_av h' c a = am_av h c a := funext fun j => am_av_kept (hi j) (hj j) (hr j)
  refine ⟨by rw [hl]; exact k1, ?_, ?_, ?_⟩
  · intro j hj'
    rw [hl] at hj'
    rw [hi, hr]
    exact ⟨(k2 j hj').1, (k2 j hj').2.1, fun q b hb => hk b ((k2 j hj').2.2 q b hb)⟩
  · intro q
    rw [e, hl, ev]
    exact k3 q
  · intro q
    obtain ⟨cell, c1, c2, c3, c4, c5, c6⟩ := k4 q
    exact ⟨cell, by rw [e]; exact c1, c2, c3, by rw [hl]; exact c4, fun j hj' => by rw [hl] at hj'; rw [ev]; exact c5 j hj', c6⟩
/-- one cell changes -/
theorem SH.upd {D : va_G} {dA : Nat → ClassId} {A : Nat → Prop} {s : State} {h h' : am_H} {H H' : Heap} (k : SH D dA A s h H) (a : Nat) (hs : H'.size = H.size) (ho : ∀ q, q ≠ a → H'[q]? = H[q]?) (hn : hN h' = hN h) (hk : ∀ b, hK h' b = hK h b) (hl : ∀ b, hL h' b = hL h b)
    (hi : ∀ b, b ≠ a → ∀ j, hI h' b j = hI h b j) (hj : ∀ b, b ≠ a → ∀ j, hJ h' b j = hJ h b j) (hr : ∀ b, b ≠ a → ∀ j, hR h' b j = hR h b j)
    (hnew : (hK h a < 40 ∧ hK h a ≠ 23 ∧ am_ob D h' (hK h a) a H') ∨ (40 ≤ hK h a ∧ hK h a ≤ 49 ∧ am_ar dA h' s (hK h a) a H')) : SH D dA A s h' H' := by
  refine ⟨by rw [hn, hs]; exact k.1, fun b c hb hc => ?_⟩
  rw [hk] at hb
  obtain ⟨k1, k2⟩ := k.2 b c hb hc
  refine ⟨k1, ?_⟩
  by_cases q : b = a
  · subst q
    rw [hb] at hnew
    rcases hnew with z | z
    · exact Or.inl z
    · exact Or.inr (Or.inl z)
  · rcases k2 with ⟨z1, z2, z3⟩ | ⟨z1, z2, z3⟩ | ⟨z1, z2⟩
    · exact Or.inl ⟨z1, z2, am_ob_kept z3 (ho b q) (hi b q) (hj b q) (hr b q)⟩
    · exact Or.inr (Or.inl ⟨z1, z2, am_ar_kept z3 (ho b q) (hl b) (hi b q) (hj b q) (hr b q) (fun x hx => by rw [hk]; exact hx)⟩)
    · refine Or.inr (Or.inr ⟨z1, ?_⟩)
      obtain ⟨cell, c1, c2⟩ := z2
      exact ⟨cell, by rw [ho b q]; exact c1, c2⟩
/-- a cell is made -/
theorem SH.new {D : va_G} {dA : Nat → ClassId} {A : Nat → Prop} {s : State} {h : am_H} {H H' : Heap} {c n : Nat} (k : SH D dA A s h H) (hc : c ≠ 0) (hA : A H.size) (hs : H'.size = H.size + 1) (ho : ∀ q, q < H.size → H'[q]? = H[q]?)
    (hnew : (c < 40 ∧ c ≠ 23 ∧ am_ob D (newC h c n) c H.size H') ∨ (40 ≤ c ∧ c ≤ 49 ∧ am_ar dA (newC h c n) s c H.size H')) : SH D dA A s (newC h c n) H' := by
  refine ⟨by rw [hN_newC, k.1, hs], fun b d hb hd => ?_⟩
  rw [hK_newC, k.1] at hb
  by_cases q : b = H.size
  · rw [if_pos q] at hb
    subst hb; subst q
    exact ⟨fun _ => hA, hnew.elim Or.inl (fun z => Or.inr (Or.inl z))⟩
  · rw [if_neg q] at hb
    obtain ⟨k1, k2⟩ := k.2 b d hb hd
    have hlt : b < H.size := by rw [← k.1]; exact hK_lt hb hd
    have e : H'[b]? = H[b]? := ho b hlt
    have qn : b ≠ hN h := by rw [k.1]; exact q
    have i1 : ∀ j, hI (newC h c n) b j = hI h b j := fun j => by rw [hI_newC, if_neg qn]
    have i2 : ∀ j, hJ (newC h c n) b j = hJ h b j := fun j => by rw [hJ_newC, if_neg qn]
    have i3 : ∀ j, hR (newC h c n) b j = hR h b j := fun j => by rw [hR_newC, if_neg qn]
    refine ⟨k1, ?_⟩
    rcases k2 with ⟨z1, z2, z3⟩ | ⟨z1, z2, z3⟩ | ⟨z1, z2⟩
    · exact Or.inl ⟨z1, z2, am_ob_kept z3 e i1 i2 i3⟩
    · exact Or.inr (Or.inl ⟨z1, z2, am_ar_kept z3 e (by rw [hL_newC, if_neg qn]) i1 i2 i3 (fun x hx => by
        rw [hK_newC, if_neg (fun z => by rw [z, show hK h (hN h) = 0 from by unfold hK hN; simp] at hx; omega)]
        exact hx)⟩)
    · refine Or.inr (Or.inr ⟨z1, ?_⟩)
      obtain ⟨cell', c1, c2⟩ := z2
      exact ⟨cell', by rw [e]; exact c1, c2⟩
