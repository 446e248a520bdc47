/-! THE SIMULATION, part J2: Unsafe.getLong at a byte array's start -/
theorem am_or_l {α : Type _} {a b : Option α} {r : α} (h : a = some r) : a.or b = some r := by rw [h]; rfl
theorem am_or_r {α : Type _} {a b c : Option α} (h : a.isNone = true) (hb : b = c) : a.or b = c := by
  cases a with
  | none => exact hb
  | some _ => cases h
set_option maxRecDepth 1000000 in
set_option maxHeartbeats 4000000 in
theorem am_gl_find : NativeRow.find? Jvm.natives "jdk/internal/misc/Unsafe" "getLong" "(Ljava/lang/Object;J)J" = some (Native.jdk_internal_misc_Unsafe.memory.getRow "Long" "J" .long "" .plain) := by
  unfold NativeRow.find? Jvm.natives
  iterate 30 rw [List.find?_append]
  iterate 29 refine am_or_l ?_
  exact am_or_r (by decide +kernel) rfl
theorem am_gl_row (p : Program) : NativeRow.find? p.tables.natives "jdk/internal/misc/Unsafe" "getLong" "(Ljava/lang/Object;J)J" = some (Native.jdk_internal_misc_Unsafe.memory.getRow "Long" "J" .long "" .plain) := by
  cases p <;> exact am_gl_find
def am_pk : List Nat → Nat
  | [] => 0
  | b :: l => b + 256 * am_pk l
theorem am_pk_sum : ∀ (l : List Nat) (n : Nat), ((l.zipIdx n).map fun (b, k) => b * 2 ^ (8 * k)).sum = am_pk l * 2 ^ (8 * n)
  | [], n => by simp [am_pk]
  | b :: l, n => by
    rw [List.zipIdx_cons, List.map_cons, List.sum_cons, am_pk_sum l (n + 1), am_pk, Nat.mul_add 8 n 1, Nat.pow_add, Nat.add_mul, Nat.mul_comm (2 ^ (8 * n)) (2 ^ (8 * 1)), ← Nat.mul_assoc, Nat.mul_comm (am_pk l) (2 ^ (8 * 1))]
theorem am_gl_num (b0 b1 b2 b3 b4 b5 b6 b7 : Nat) : (([b0, b1, b2, b3, b4, b5, b6, b7].zipIdx.map fun (b, k) => b * 2 ^ (8 * k)).sum) = b0 + 256 * (b1 + 256 * (b2 + 256 * (b3 + 256 * (b4 + 256 * (b5 + 256 * (b6 + 256 * b7)))))) := by
  rw [am_pk_sum, Nat.mul_zero, Nat.pow_zero, Nat.mul_one]
  simp only [am_pk, Nat.mul_zero, Nat.add_zero]
theorem am_gl_wp {E : CtlPost} {e : Env} {d : Bool} {acts : List Action} {s : State} {a : Addr} {A : Cell} {k : Class} {comp : ClassId} {f : Nat → Int32} {Q : Value → Pre}
    (hA : s.heap[a]? = some A) (hvm : A.vm = .none) (hk : s.vm.classes[A.cls]? = some k) (hkind : k.kind = .array comp .byte) (hf : ∀ j, j < 8 → A.slots[j]? = some (.int (f j)))
    (hQ : ∀ d' acts', Q (.long (am_le8 f)) d' acts' s) : wp (UnsafeMem.get .long (.ref a) 16 .plain) Q E e d acts s := by
  have hr : List.range (UnsafeMem.scaleOf .long) = [0, 1, 2, 3, 4, 5, 6, 7] := rfl
  have hl : ∀ {Q : UnsafeMem.Target → Pre} {d : Bool} {acts : List Action}, wp (UnsafeMem.locate (.ref a) 16 .long) Q E e d acts s ↔ Q (UnsafeMem.Target.bytes a .byte 0) d acts s := by
    intro Q d acts
    simp [UnsafeMem.locate, hA, Cell.info, hvm, hk, hkind, UnsafeMem.arrayBase, UnsafeMem.scaleOf, UnsafeMem.isRefType, show ¬ ((16 : Int64) < 0) from by decide, show (16 : Int64).toNatClampNeg = 16 from by decide]
  have hb : ∀ (j : Nat), j < 8 → ∀ {Q : Nat → Pre} {d : Bool} {acts : List Action}, wp (UnsafeMem.readByte a .byte j .plain) Q E e d acts s ↔ Q ((f j).toUInt32.toNat % 256) d (readActs ⟨a, j⟩ .plain (.int (f j)) acts) s := by
    intro j hj Q d acts
    simp [UnsafeMem.readByte, UnsafeMem.scaleOf, UnsafeMem.bitsOf, hA, hvm, hf j hj, Nat.mod_one]
  simp only [UnsafeMem.get, wp_bind', hl, hr, List.mapM, List.mapM.loop, Nat.zero_add, hb 0 (by decide), hb 1 (by decide), hb 2 (by decide), hb 3 (by decide), hb 4 (by decide), hb 5 (by decide), hb 6 (by decide), hb 7 (by decide), wp_pure']
  have e1 : ∀ X : Nat, X = (f 0).toUInt32.toNat % 256 + 256 * ((f 1).toUInt32.toNat % 256 + 256 * ((f 2).toUInt32.toNat % 256 + 256 * ((f 3).toUInt32.toNat % 256 + 256 * ((f 4).toUInt32.toNat % 256 + 256 * ((f 5).toUInt32.toNat % 256 + 256 * ((f 6).toUInt32.toNat % 256 + 256 * ((f 7).toUInt32.toNat % 256))))))) → UnsafeMem.ofBits .long X = .long (am_le8 f) := by
    intro X hX
    subst hX
    rfl
  have e2 := e1 _ (am_gl_num ((f 0).toUInt32.toNat % 256) ((f 1).toUInt32.toNat % 256) ((f 2).toUInt32.toNat % 256) ((f 3).toUInt32.toNat % 256) ((f 4).toUInt32.toNat % 256) ((f 5).toUInt32.toNat % 256) ((f 6).toUInt32.toNat % 256) ((f 7).toUInt32.toNat % 256))
  have h9 := hQ
  rw [← e2] at h9
  exact h9 _ _
def am_yGL : MethodName := ⟨"jdk/internal/misc/Unsafe", "getLong", "(Ljava/lang/Object;J)J"⟩
theorem am_gl_desc : parseMethodDescriptor am_yGL.desc = some { parameters := [.object "java/lang/Object", .long], returnType := some .long } := by decide +kernel
section SIMJ2
variable {p : Program} {l : Launch} {e : Env} {R : Room} {s : State} {m : MethodId} {args : Array Value} {below : List Frame} {meth : Method} {c : Code} {cc : ByteArray} {Q : State → Prop} {nL N0 S0 : Nat} {LS : List Nat}
variable {pc : Nat} {ls : List (Option am_V)} {st : List am_V} {h h' : am_H} {fr' : am_F} {D : va_G} {dA : Nat → ClassId} {A : Nat → Prop} {own : String}
theorem am_gl_go {T : State} {locs : List Loc} {cells slots : Nat} (X : Stand p l e R s m args below meth c T locs cells slots) (hexec : p.tables.exec = Jvm.exec) {index : Nat}
    (hown : s.vm.findClass own = some m.cls) (hlink : (Cond.methodLink own index am_yGL).before args s = true) (hsel : (Cond.selects "jdk/internal/misc/Unsafe" am_yGL am_yGL).before args s = true) (hinst : (Cond.instanceMethod am_yGL).before args s = true) (hnat : (Cond.native am_yGL).before args s = true)
    {u : Addr} {cu : Cell} (hu : T.heap[u]? = some cu) (hus : cu.vm.isStatics = false) (hfc : s.vm.findClass "jdk/internal/misc/Unsafe" = some cu.cls)
    {a : Addr} {B : Cell} (hB : T.heap[a]? = some B) (hvm : B.vm = .none) {k : Class} {comp : ClassId} (hk : s.vm.classes[B.cls]? = some k) (hkind : k.kind = .array comp .byte) {f : Nat → Int32} (hf : ∀ j, j < 8 → B.slots[j]? = some (.int (f j)))
    {g : JFrame} (hg : g.method = m) (hsize : g.locals.size = c.maxLocals) {rest : List Value} (hstack : g.stack = .long 16 :: .ref a :: .ref u :: rest) (hdg : decode c.code g.pc = .ok (.invokevirtual index, 3))
    (hframes : 1 ≤ R.frames) (hlocals : 2 * g.monitorRoom + (rest.map fun v => v.category).sum + (nativeFrameWords "jdk/internal/misc/Unsafe" "getLong" 4 + 11) ≤ R.locals) :
    ∃ vm₁, Stand p l e R s m args below meth c (T.setVm vm₁) locs cells slots ∧
      ∀ target, Steps p.tables e below ((T.setVm vm₁).setTop { g with pc := g.pc + 3, stack := .long (am_le8 f) :: rest }) target → Steps p.tables e below (T.setTop g) target := by
  obtain ⟨mk, methM, hnamed, hmethM, -, habM⟩ := Cond.instanceMethod_spec hinst
  obtain ⟨mN, kN, methN, hnamedN, hmethN, hkN, N⟩ := NativeOf.of_instance hnat hinst am_gl_desc
  cases hnamed.symm.trans hnamedN
  cases hmethM.symm.trans hmethN
  obtain ⟨c2, r2, m2, q1, q2, q3, q4, kP, hkP, hkPi⟩ := Cond.selects_spec hsel
  cases hfc.symm.trans q1
  cases (State.methodFound?_of_named hnamed (by decide)).symm.trans q2
  cases hnamed.symm.trans q3
  have hselP : selectMethod e.platform s.vm cu.cls mk = .method mk := by rw [Launch.admits_selectMethod X.admits]; exact q4
  obtain ⟨vm₁, X₁, hstep₁⟩ := X.invokevirtual hexec hown hlink hnamed hmethM N.static hkP hkPi (by decide) (a := u) (cell := cu) hu (fun z h => by rw [h] at hus; cases hus) hselP hmethM habM hkP hkPi (g := g) hg (argsL := [.ref a, .long 16]) (rest := rest) (by rw [N.sig]; rfl) hstack hdg
  have hal : s.vm.Alike vm₁ := X₁.warmed.alike
  obtain ⟨kN₁, N₁⟩ := N.alike hal
  obtain ⟨k₁, hk₁, ek⟩ := hal.2.2 _ _ hk
  have hAt : At (T.setVm vm₁) ({ g with stack := rest } : JFrame).method c below := by rw [show ({ g with stack := rest } : JFrame).method = m from hg]; exact X₁.here
  have hroom := X₁.notFull (g := { g with stack := rest }) hsize (vars := nativeFrameWords "jdk/internal/misc/Unsafe" "getLong" 4) hframes hlocals
  refine ⟨vm₁, X₁, fun target hrest => hstep₁ target fun acts => ?_⟩
  have hseen : seenByNative methM #[.ref u, .ref a, .long 16] = #[.ref u, .ref a, .long 16] := by simp [seenByNative, N₁.static, N₁.sig, narrow]
  refine Steps.nativeEnds (row := Native.jdk_internal_misc_Unsafe.memory.getRow "Long" "J" .long "" .plain) (v := some (.long (am_le8 f))) (T := id) (g := { g with stack := rest }) (args := #[.ref u, .ref a, .long 16]) hAt acts N₁.cls N₁.meth N₁.boot N₁.native N₁.noCode N₁.noLock (by rw [N₁.className, N₁.name, N₁.desc]; exact am_gl_row p) (by rw [N₁.className, N₁.name]; exact hroom) (fun _ => rfl) rfl (fun _ => hAt.code) ?_ hdg hrest
  intro Q hq
  rw [hseen] at hq ⊢
  show wp (do let v ← UnsafeMem.get .long (.ref a) 16 .plain; mark "nat.jdk_internal_misc_Unsafe.get"; Pure.pure (some v)) Q _ e false [] _
  simp only [wp_bind']
  refine am_gl_wp (A := B) (k := k₁) (comp := comp) hB hvm hk₁ (by rw [ek]; exact hkind) hf fun d' acts' => ?_
  simp
  exact hq _ _
theorem sw_nat3 {idx : Nat} {t : List (Nat × Nat)} (C : SC p s m args c cc own D dA) (hE' : SEf (hE h) A s s.heap) (hml : c.maxLocals = nL) (h1 : Cond.methodLink own idx am_yGL ∈ lw_all) (h2 : Cond.instanceMethod am_yGL ∈ lw_all) (h3 : Cond.selects "jdk/internal/misc/Unsafe" am_yGL am_yGL ∈ lw_all) (h4 : Cond.native am_yGL ∈ lw_all) (hf : 1 ≤ R.frames) (hl : 64 ≤ R.locals) (hd : decode cc pc = .ok (.invokevirtual idx, 3))
    (he : am_nat 1003 (pc, (ls, st)) h t = some (Sum.inl (fr', h'))) (kk : SW p l e R s m args below meth c Q nL N0 S0 LS (SGf D dA A s) fr' h') : SW p l e R s m args below meth c Q nL N0 S0 LS (SGf D dA A s) (pc, (ls, st)) h := by
  obtain ⟨hx, hb, hown, hts, hsx, hKt⟩ := C
  unfold am_nat at he
  split at he
  · rename_i q _; exact absurd q (by decide)
  · rename_i q _; exact absurd q (by decide)
  · rename_i q _; exact absurd q (by decide)
  · rename_i off a u st' _ hs
    have hs : st = vL off :: vR (some a) :: vR (some u) :: st' := hs
    subst hs
    split at he
    · rename_i hc
      obtain ⟨hc, hoff, hku, hka, hl8⟩ := hc
      subst hoff
      obtain ⟨rfl, rfl⟩ := am_nx_some he
      intro H locs arr ha hg hG
      obtain ⟨d0, de, cd, d1, d2, d3, d4, d5, d6⟩ := sc_arr hKt hG hka (by decide) (by decide)
      obtain ⟨d7, d8⟩ := d6 rfl
      subst d8
      obtain ⟨cu, u1, u2, u3⟩ := sc_u hE' hG
      rw [← hku] at u1
      obtain ⟨-, kS, hkS, compS, hkindS⟩ := (hKt.2 3 _ rfl).1 0 (fun _ => .null)
      intro T hT X
      obtain ⟨vm', X', stp⟩ := am_gl_go X hx hown (hts _ h1) (hts _ h3) (hts _ h2) (hts _ h4) (u := u) (cu := cu) (by rw [hT]; exact u1) u2 u3 (a := a) (B := arrV (dA 44) (hL h' a) (am_av h' 44 a)) (by rw [hT]; exact d1) rfl hkS hkindS (f := hI h' a) (fun j hj => by rw [arrV_read _ _ (by omega)]; rfl)
        (g := F0 m pc arr (.long 16 :: .ref a :: .ref u :: st'.map am_e)) rfl (by rw [hml]; exact ha.1) rfl (by rw [hb]; exact hd) hf (by show 2 * 0 + _ + _ ≤ _; rw [am_cats_sum]; have hw : nativeFrameWords "jdk/internal/misc/Unsafe" "getLong" 4 = 6 := (by decide +kernel); omega)
      obtain ⟨t9, a1, b1⟩ := kk H locs arr ha hg hG (T.setVm vm') hT X'
      exact ⟨t9, stp t9 a1, b1⟩
    · cases he
  all_goals first | (rename_i q _; exact absurd q (by decide)) | cases he
end SIMJ2
