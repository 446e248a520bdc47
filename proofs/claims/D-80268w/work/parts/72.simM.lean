/-! THE SIMULATION, part M: what an instruction's site asks of the tables; a step that is no call -/
/-- sites of instructions that are no calls -/
def am_VI (own : String) (ini : Bool) (nL : Nat) (LS : List Nat) (rt : Option FieldType) (pc : Nat) (ai : am_I) : Prop := am_ok0 nL LS pc ai ∧ (∀ k, am_len ai.1 = some k → ai.2.1 = k) ∧ match ai with
  | (ins, (len, (o, t))) => match ins with
    | .getfield idx => len = 3 ∧ (o = [] ∨ ∃ lo hi k tc, o = [lo, hi, k, tc] ∧ am_VF own idx lo hi k (fun ty => (tc = 0 ∧ (am_tc ty = 0 ∨ am_tc ty = 4 ∨ am_tc ty = 5 ∨ am_tc ty = 6)) ∨ (tc = 1 ∧ am_tc ty = 1) ∨ (tc = 2 ∧ am_tc ty = 2)) (fun _ => True))
    | .putfield idx => len = 3 ∧ (o = [] ∨ ∃ lo hi k tc, o = [lo, hi, k, tc] ∧ am_VF own idx lo hi k (fun ty => am_tc ty = tc) (fun q => (q.2.1 k).2.2.2 = false ∨ ((q.2.1 k).2.2.2 = true ∧ (q.2.1 k).1 = own ∧ ini = true)) ∧ ∀ x, lo ≤ x → x ≤ hi → am_ro x = false)
    | .new idx => len = 3 ∧ (o = [] ∨ ∃ ck n, o = [ck, n] ∧ am_VN own idx ck n)
    | .newarray at_ => len = 2 ∧ (o = [] ∨ ∃ ck, o = [ck] ∧ ((ck = 40 ∧ at_ = .int) ∨ (ck = 42 ∧ at_ = .long) ∨ (ck = 43 ∧ at_ = .boolean) ∨ (ck = 44 ∧ at_ = .byte)) ∧ Cond.arrayClass (newarray.typeOf at_) ∈ lw_all)
    | .anewarray idx => len = 3 ∧ (o = [] ∨ ∃ ck C, o = [ck] ∧ ((ck = 46 ∧ C = "java/lang/Object") ∨ (ck = 48 ∧ C = "java/util/HashMap$Node")) ∧ Cond.classLink own idx C ∈ lw_all)
    | .ldc idx => len = 2 ∧ am_VL own idx o
    | .ldc_w idx => len = 3 ∧ (o = [] ∨ (∃ v, o = [0, v] ∧ Cond.constant own idx (Int32.ofNat v) ∈ lw_all) ∨ ∃ k tx, o = [1, k] ∧ (own, (idx, (k, tx))) ∈ am_strs)
    | .ldc2_w idx => len = 3 ∧ ∃ v, o = [v] ∧ Cond.constantLong own idx (Int64.ofNat v) ∈ lw_all
    | .getstatic idx => len = 3 ∧ (o = [] ∨ am_VS own idx o)
    | .checkcast idx => len = 3 ∧ ∃ nm, o = [] ∨ am_VK own idx o nm
    | .instanceof idx => len = 3 ∧ ∃ nm, am_VK own idx o nm ∧ ∀ q ∈ t, 0 < q.1 ∧ q.1 < 40 ∧ (am_kn q.1, nm) ∈ am_ncs
    | .arraylength => len = 1
    | .iaload => len = 1
    | .laload => len = 1
    | .baload => len = 1
    | .aaload => len = 1
    | .iastore => len = 1
    | .lastore => len = 1
    | .bastore => len = 1
    | .aastore => len = 1
    | .ireturn => len = 1 ∧ ∃ ty, rt = some ty ∧ o = [am_tc ty]
    | .lreturn => len = 1 ∧ rt = some .long
    | .areturn => len = 1 ∧ ∃ ty, rt = some ty ∧ ((∃ n, ty = .object n) ∨ ∃ t, ty = .array t)
    | .return_ => len = 1 ∧ rt = none
    | .athrow => len = 1 ∧ o = []
    | _ => True
/-- calls, natives among them -/
def am_isInv (ins : Instr) : Bool := match ins with
  | .invokestatic _ => true
  | .invokespecial _ => true
  | .invokevirtual _ => true
  | .invokeinterface _ _ => true
  | _ => false
section SIMM
variable {p : Program} {l : Launch} {e : Env} {R : Room} {s : State} {m : MethodId} {args : Array Value} {below : List Frame} {meth : Method} {c : Code} {cc : ByteArray} {Q : State → Prop} {nL N0 S0 : Nat} {LS : List Nat}
variable {pc : Nat} {ls : List (Option am_V)} {st : List am_V} {h h' : am_H} {fr' : am_F} {D : va_G} {dA : Nat → ClassId} {A : Nat → Prop} {own : String}
set_option maxHeartbeats 4000000 in
theorem sim_step {ai : am_I} {ini : Bool} {rt : Option FieldType} (hni : am_isInv ai.1 = false) (C : SC p s m args c cc own D dA) (hB : SB s) (hE : SEf (hE h) A s s.heap) (hini : ini = true → meth.name = "<init>") (V : am_VI own ini nL LS rt pc ai) (hAs : ∀ q : Nat, s.heap.size ≤ q → A q) (hN0 : N0 ≤ hN h) (hS0 : S0 ≤ hS h) (hrc : hN h' - N0 ≤ R.cells) (hrs : hS h' - S0 ≤ R.slots) (hd : decode cc pc = .ok (ai.1, ai.2.1))
    (he : am_exec ai (pc, (ls, st)) h = some (Sum.inl (fr', h'))) (kk : SW p l e R s m args below meth c Q nL N0 S0 LS (SGf D dA A s) fr' h') : SW p l e R s m args below meth c Q nL N0 S0 LS (SGf D dA A s) (pc, (ls, st)) h := by
  obtain ⟨ins, len, o, t⟩ := ai
  obtain ⟨hx, hb, hown, hts, hsx, hKt⟩ := id C
  obtain ⟨V0, Vl, V⟩ := V
  by_cases hp : am_pure ins = true
  · exact sim_pure hp hx hb hd V0 Vl he kk
  · cases ins <;> first
      | (exact absurd rfl hp)
      | (cases hni; done)
      | (cases he; done)
      | skip
    case getfield idx =>
      obtain ⟨rfl, V⟩ := V
      rcases V with rfl | ⟨lo, hi, k, tc, rfl, V⟩
      · cases he
      · exact sw_getf (len := 3) (tt := t) C V hd he kk
    case putfield idx =>
      obtain ⟨rfl, V⟩ := V
      rcases V with rfl | ⟨lo, hi, k, tc, rfl, V, V2⟩
      · cases he
      · exact sw_putf C V hini V2 hd he kk
    case new idx =>
      obtain ⟨rfl, V⟩ := V
      rcases V with rfl | ⟨ck, n, rfl, V⟩
      · cases he
      · exact sw_new C V hAs hN0 hS0 hrc hrs hd he kk
    case newarray at_ =>
      obtain ⟨rfl, V⟩ := V
      rcases V with rfl | ⟨ck, rfl, V, V2⟩
      · cases he
      · exact sw_newarray hx hb hts hKt V V2 hAs hN0 hS0 hrc hrs hd he kk
    case anewarray idx =>
      obtain ⟨rfl, V⟩ := V
      rcases V with rfl | ⟨ck, T, rfl, V, V2⟩
      · cases he
      · exact sw_anewarray hx hb hown hts hKt hB V V2 hAs hN0 hS0 hrc hrs hd he kk
    case ldc idx =>
      obtain ⟨rfl, V⟩ := V
      exact sw_ldc C hE V hd he kk
    case ldc_w idx =>
      obtain ⟨rfl, V⟩ := V
      rcases V with rfl | ⟨v, rfl, V⟩ | ⟨k, tx, rfl, V⟩
      · cases he
      · exact sw_ldcw C V hd he kk
      · exact sw_ldcwS C hE V hd he kk
    case ldc2_w idx =>
      obtain ⟨rfl, v, rfl, V⟩ := V
      exact sw_ldc2 C V hd he kk
    case getstatic idx =>
      obtain ⟨rfl, V⟩ := V
      rcases V with rfl | V
      · cases he
      · exact sw_gets C hE V hd he kk
    case checkcast idx =>
      obtain ⟨rfl, nm, V⟩ := V
      exact sw_cast C hB V hd he kk
    case instanceof idx =>
      obtain ⟨rfl, nm, V, V2⟩ := V
      exact sw_inst C hB hE V V2 hd he kk
    case arraylength =>
      have V : len = 1 := V
      subst V
      simp only [am_exec] at he
      split at he
      · rename_i a st'
        split at he
        · rename_i hr
          obtain ⟨rfl, rfl⟩ := am_nx_some he
          exact sw_alen hx hb hKt hd rfl hr kk
        · cases he
      · cases he
    case iaload =>
      have V : len = 1 := V
      subst V
      simp only [am_exec] at he
      refine sw_ald hKt (by decide) (by decide) (fun a j ck _ h1 h2 => ?_) (fun ck h1 h2 H locs cells slots a cell i v arr rest g1 g2 g3 g4 g5 kw => ?_) he kk
      · have : ck = 40 ∨ ck = 41 := by omega
        rcases this with rfl | rfl <;> rfl
      · have : ck = 40 ∨ ck = 41 := by omega
        rcases this with rfl | rfl <;> exact W.iald hx hb g1 g2 g3 g4 g5 rfl rfl hd kw
    case laload =>
      have V : len = 1 := V
      subst V
      simp only [am_exec] at he
      refine sw_ald hKt (by decide) (by decide) (fun a j ck _ h1 h2 => ?_) (fun ck h1 h2 H locs cells slots a cell i v arr rest g1 g2 g3 g4 g5 kw => ?_) he kk
      · have : ck = 42 := by omega
        subst this; rfl
      · have : ck = 42 := by omega
        subst this
        exact W.lald hx hb g1 g2 g3 g4 g5 rfl rfl hd kw
    case baload =>
      have V : len = 1 := V
      subst V
      simp only [am_exec] at he
      refine sw_ald hKt (by decide) (by decide) (fun a j ck _ h1 h2 => ?_) (fun ck h1 h2 H locs cells slots a cell i v arr rest g1 g2 g3 g4 g5 kw => ?_) he kk
      · have : ck = 43 ∨ ck = 44 ∨ ck = 45 := by omega
        rcases this with rfl | rfl | rfl <;> rfl
      · have : ck = 43 ∨ ck = 44 ∨ ck = 45 := by omega
        rcases this with rfl | rfl | rfl
        · exact W.zald hx hb g1 g2 g3 g4 g5 rfl rfl hd kw
        · exact W.bald hx hb g1 g2 g3 g4 g5 rfl rfl hd kw
        · exact W.bald hx hb g1 g2 g3 g4 g5 rfl rfl hd kw
    case aaload =>
      have V : len = 1 := V
      subst V
      simp only [am_exec] at he
      refine sw_ald hKt (by decide) (by decide) (fun a j ck _ h1 h2 => ?_) (fun ck h1 h2 H locs cells slots a cell i v arr rest g1 g2 g3 g4 g5 kw => ?_) he kk
      · have : ck = 46 ∨ ck = 47 ∨ ck = 48 ∨ ck = 49 := by omega
        rcases this with rfl | rfl | rfl | rfl <;> rfl
      · have : ck = 46 ∨ ck = 47 ∨ ck = 48 ∨ ck = 49 := by omega
        rcases this with rfl | rfl | rfl | rfl <;> exact W.aald hx hb g1 g2 rfl g3 g4 g5 rfl rfl hd kw
    case iastore =>
      have V : len = 1 := V
      subst V
      exact sw_iast hKt (Or.inl ⟨rfl, rfl⟩) (fun H locs cells slots a cell i x arr rest g1 g2 g3 g4 kw => W.iast hx hb g1 g2 g3 g4 rfl rfl hd kw) he kk
    case lastore =>
      have V : len = 1 := V
      subst V
      exact sw_last hx hb hKt hd he kk
    case bastore =>
      have V : len = 1 := V
      subst V
      simp only [am_exec] at he
      split at he
      · exact sw_iast hKt (Or.inr (Or.inl ⟨rfl, rfl⟩)) (fun H locs cells slots a cell i x arr rest g1 g2 g3 g4 kw => W.zast hx hb g1 g2 g3 g4 rfl rfl hd kw) he kk
      · exact sw_iast hKt (Or.inr (Or.inr ⟨rfl, rfl⟩)) (fun H locs cells slots a cell i x arr rest g1 g2 g3 g4 kw => W.bast hx hb g1 g2 g3 g4 rfl rfl hd kw) he kk
      · cases he
    case aastore =>
      have V : len = 1 := V
      subst V
      exact sw_aast hx hb hKt hB hd he kk
    all_goals first
      | (exact absurd he (by simp only [am_exec]; first | (intro z; cases z; done) | (split <;> first | (intro z; cases z; done) | (split <;> intro z <;> cases z)) | (repeat' split) <;> (intro z; cases z)))
end SIMM
