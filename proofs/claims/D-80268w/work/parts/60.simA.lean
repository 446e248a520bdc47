/-! THE SIMULATION, part A: values, locals, the steps that leave the heap alone -/
def am_e : am_V → Value
  | .inl x => .int x
  | .inr (.inl y) => .long y
  | .inr (.inr (.inl z)) => va_rf z
  | .inr (.inr (.inr w)) => .float w
theorem am_e_c1 {v : am_V} (h : am_c1 v = true) : (am_e v).category = 1 := by
  rcases v with x | y | z | w
  · rfl
  · simp [am_c1] at h
  · cases z <;> rfl
  · rfl
theorem am_e_c2 (y : Int64) : (am_e (vL y)).category = 2 := rfl
theorem am_e_notlong {v : am_V} (h : (am_e v).category = 2) : ∃ y, v = vL y := by
  rcases v with x | y | z | w
  · cases h
  · exact ⟨y, rfl⟩
  · cases z <;> cases h
  · cases h
theorem am_cats_sum (l : List am_V) : ((l.map am_e).map fun v => v.category).sum = am_cats l := by
  induction l with
  | nil => rfl
  | cons v l ih =>
    rcases v with x | y | z | w
    · simp only [List.map_cons, List.sum_cons, ih]; show 1 + _ = am_cats l + 1; omega
    · simp only [List.map_cons, List.sum_cons, ih]; show 2 + _ = am_cats l + 2; omega
    · simp only [List.map_cons, List.sum_cons, ih]
      have : (am_e (Sum.inr (Sum.inr (Sum.inl z)))).category = 1 := by cases z <;> rfl
      rw [this]; show 1 + _ = am_cats l + 1; omega
    · simp only [List.map_cons, List.sum_cons, ih]; show 1 + _ = am_cats l + 1; omega
/-- the places for locals: what is known of them -/
def am_l (ls : List (Option am_V)) (arr : Array Slot) (nL : Nat) : Prop := arr.size = nL ∧ lv_wf arr ∧ ∀ (k : Nat) (v : am_V), ls[k]? = some (some v) → arr[k]? = some (.val (am_e v))
/-- longs lie in these places only -/
def am_lg (LS : List Nat) (ls : List (Option am_V)) : Prop := ∀ (k : Nat) (y : Int64), ls[k]? = some (some (vL y)) → k ∈ LS
def am_as : Nat → List (Option am_V) → List (Nat × Value)
  | _, [] => []
  | k, none :: l => am_as (k + 1) l
  | k, some v :: l => (k, am_e v) :: am_as (k + 1) l
theorem am_as_mem : ∀ (ls : List (Option am_V)) (k j : Nat) (x : Value), (j, x) ∈ am_as k ls ↔ ∃ (i : Nat) (v : am_V), j = k + i ∧ ls[i]? = some (some v) ∧ x = am_e v
  | [], k, j, x => by simp [am_as]
  | none :: l, k, j, x => by
    rw [am_as, am_as_mem l (k + 1) j x]
    constructor
    · rintro ⟨i, v, h1, h2, h3⟩
      exact ⟨i + 1, v, by omega, by simpa using h2, h3⟩
    · rintro ⟨i, v, h1, h2, h3⟩
      cases i with
      | zero => simp at h2
      | succ i => exact ⟨i, v, by omega, by simpa using h2, h3⟩
  | some w :: l, k, j, x => by
    rw [am_as, List.mem_cons, am_as_mem l (k + 1) j x]
    constructor
    · rintro (h | ⟨i, v, h1, h2, h3⟩)
      · cases h
        exact ⟨0, w, rfl, rfl, rfl⟩
      · exact ⟨i + 1, v, by omega, by simpa using h2, h3⟩
    · rintro ⟨i, v, h1, h2, h3⟩
      cases i with
      | zero =>
        simp at h2
        subst h2; subst h3
        exact Or.inl (by rw [h1]; rfl)
      | succ i => exact Or.inr ⟨i, v, by omega, by simpa using h2, h3⟩
theorem am_l_has {ls : List (Option am_V)} {arr : Array Slot} {nL : Nat} (h : am_l ls arr nL) : lv_has arr nL (am_as 0 ls) := by
  refine ⟨h.1, h.2.1, ?_⟩
  rintro ⟨j, x⟩ hq
  obtain ⟨i, v, h1, h2, h3⟩ := (am_as_mem ls 0 j x).mp hq
  have : j = i := by omega
  subst this; subst h3
  exact h.2.2 j v h2
theorem am_store1 {ls : List (Option am_V)} {arr : Array Slot} {nL i : Nat} {v : am_V} {o LS : List Nat} (h : am_l ls arr nL) (hg : am_lg LS ls) (hi : i < nL) (hv : am_c1 v = true) (ho : o = [] → ∀ j, j + 1 = i → j ∉ LS) :
    ∃ arr', storeLocals arr i (am_e v) = some arr' ∧ am_l (am_put1 o ls i v) arr' nL ∧ am_lg LS (am_put1 o ls i v) := by
  obtain ⟨arr', e, h'⟩ := lv_store1 (am_l_has h) hi (am_e_c1 hv)
  have key : ∀ (k : Nat) (w : am_V), (am_put1 o ls i v)[k]? = some (some w) → (k = i ∧ w = v) ∨ (k ≠ i ∧ ls[k]? = some (some w) ∧ (o ≠ [] → k + 1 ≠ i)) := by
    intro k w hk
    cases o with
    | nil =>
      simp only [am_put1, List.getElem?_set] at hk
      by_cases q : i = k
      · subst q
        simp only [if_true] at hk
        split at hk
        · simp at hk; exact Or.inl ⟨rfl, hk.symm⟩
        · cases hk
      · rw [if_neg q] at hk
        exact Or.inr ⟨fun z => q z.symm, hk, fun z => absurd rfl z⟩
    | cons a b =>
      simp only [am_put1, List.getElem?_set] at hk
      by_cases q : i = k
      · subst q
        simp only [if_true] at hk
        split at hk
        · simp at hk; exact Or.inl ⟨rfl, hk.symm⟩
        · cases hk
      · rw [if_neg q] at hk
        by_cases q2 : i - 1 = k
        · rw [if_pos q2] at hk
          split at hk <;> cases hk
        · rw [if_neg q2] at hk
          exact Or.inr ⟨fun z => q z.symm, hk, fun _ z => q2 (by omega)⟩
  refine ⟨arr', e, ⟨h'.1, h'.2.1, ?_⟩, ?_⟩
  · intro k w hk
    rcases key k w hk with ⟨rfl, rfl⟩ | ⟨h1, h2, h3⟩
    · exact h'.2.2 _ (List.mem_cons_self)
    · refine h'.2.2 (k, am_e w) (List.mem_cons_of_mem _ (List.mem_filter.mpr ⟨(am_as_mem ls 0 k _).mpr ⟨k, w, by omega, h2, rfl⟩, ?_⟩))
      by_cases q : k + 1 = i ∧ (am_e w).category = 2
      · obtain ⟨y, rfl⟩ := am_e_notlong q.2
        by_cases qo : o = []
        · exact absurd (hg k y h2) (ho qo k q.1)
        · exact absurd q.1 (h3 qo)
      · simp only [Bool.and_eq_true, Bool.not_eq_true', beq_eq_false_iff_ne, ne_eq, Bool.and_eq_false_iff]
        refine ⟨h1, ?_⟩
        by_cases q1 : k + 1 = i
        · exact Or.inr fun z => q ⟨q1, z⟩
        · exact Or.inl q1
  · intro k y hk
    rcases key k _ hk with ⟨rfl, e2⟩ | ⟨h1, h2, h3⟩
    · subst e2; cases hv
    · exact hg k y h2
theorem am_store2 {ls : List (Option am_V)} {arr : Array Slot} {nL i : Nat} {y : Int64} {o LS : List Nat} (h : am_l ls arr nL) (hg : am_lg LS ls) (hi : i + 1 < nL) (hin : i ∈ LS) (ho : o = [] → ∀ j, j + 1 = i → j ∉ LS) :
    ∃ arr', storeLocals arr i (.long y) = some arr' ∧ am_l (am_put2 o ls i (vL y)) arr' nL ∧ am_lg LS (am_put2 o ls i (vL y)) := by
  obtain ⟨arr', e, h'⟩ := lv_store2 (v := .long y) (am_l_has h) hi rfl
  have key : ∀ (k : Nat) (w : am_V), (am_put2 o ls i (vL y))[k]? = some (some w) → (k = i ∧ w = vL y) ∨ (k ≠ i ∧ k ≠ i + 1 ∧ ls[k]? = some (some w) ∧ (o ≠ [] → k + 1 ≠ i)) := by
    intro k w hk
    cases o with
    | nil =>
      simp only [am_put2, List.getElem?_set] at hk
      by_cases q0 : i + 1 = k
      · rw [if_pos q0] at hk
        split at hk <;> cases hk
      · rw [if_neg q0] at hk
        by_cases q : i = k
        · subst q
          simp only [if_true] at hk
          split at hk
          · simp at hk; exact Or.inl ⟨rfl, hk.symm⟩
          · cases hk
        · rw [if_neg q] at hk
          exact Or.inr ⟨fun z => q z.symm, fun z => q0 z.symm, hk, fun z => absurd rfl z⟩
    | cons a b =>
      simp only [am_put2, List.getElem?_set] at hk
      by_cases q0 : i + 1 = k
      · rw [if_pos q0] at hk
        split at hk <;> cases hk
      · rw [if_neg q0] at hk
        by_cases q : i = k
        · subst q
          simp only [if_true] at hk
          split at hk
          · simp at hk; exact Or.inl ⟨rfl, hk.symm⟩
          · cases hk
        · rw [if_neg q] at hk
          by_cases q2 : i - 1 = k
          · rw [if_pos q2] at hk
            split at hk <;> cases hk
          · rw [if_neg q2] at hk
            exact Or.inr ⟨fun z => q z.symm, fun z => q0 z.symm, hk, fun _ z => q2 (by omega)⟩
  refine ⟨arr', e, ⟨h'.1, h'.2.1, ?_⟩, ?_⟩
  · intro k w hk
    rcases key k w hk with ⟨rfl, rfl⟩ | ⟨h1, h1', h2, h3⟩
    · exact h'.2.2 _ (List.mem_cons_self)
    · refine h'.2.2 (k, am_e w) (List.mem_cons_of_mem _ (List.mem_filter.mpr ⟨(am_as_mem ls 0 k _).mpr ⟨k, w, by omega, h2, rfl⟩, ?_⟩))
      by_cases q : k + 1 = i ∧ (am_e w).category = 2
      · obtain ⟨y, rfl⟩ := am_e_notlong q.2
        by_cases qo : o = []
        · exact absurd (hg k y h2) (ho qo k q.1)
        · exact absurd q.1 (h3 qo)
      · simp only [Bool.and_eq_true, Bool.not_eq_true', beq_eq_false_iff_ne, ne_eq, Bool.and_eq_false_iff]
        refine ⟨h1, h1', ?_⟩
        by_cases q1 : k + 1 = i
        · exact Or.inr fun z => q ⟨q1, z⟩
        · exact Or.inl q1
  · intro k z hk
    rcases key k _ hk with ⟨rfl, e2⟩ | ⟨h1, h1', h2, h3⟩
    · exact hin
    · exact hg k z h2
/-- what an instruction asks of its method beside its bytes: places for locals, targets of jumps, the switches' tables -/
def am_ok0 (nL : Nat) (LS : List Nat) (pc : Nat) (ai : am_I) : Prop := match ai with
  | (ins, (len, (o, t))) => match ins with
    | .istore i => i < nL ∧ (o = [] → ∀ j, j + 1 = i → j ∉ LS)
    | .astore i => i < nL ∧ (o = [] → ∀ j, j + 1 = i → j ∉ LS)
    | .istore_n i => (i : Nat) < nL ∧ (o = [] → ∀ j, j + 1 = (i : Nat) → j ∉ LS)
    | .astore_n i => (i : Nat) < nL ∧ (o = [] → ∀ j, j + 1 = (i : Nat) → j ∉ LS)
    | .lstore i => i + 1 < nL ∧ i ∈ LS ∧ (o = [] → ∀ j, j + 1 = i → j ∉ LS)
    | .lstore_n i => (i : Nat) + 1 < nL ∧ (i : Nat) ∈ LS ∧ (o = [] → ∀ j, j + 1 = (i : Nat) → j ∉ LS)
    | .iinc i _ => i < nL ∧ ∀ j, j + 1 = i → j ∉ LS
    | .goto off => ∀ x ∈ o, (pc : Int) + off = (x : Int)
    | .ifCond _ off => ∀ x ∈ o, (pc : Int) + off = (x : Int)
    | .if_icmp _ off => ∀ x ∈ o, (pc : Int) + off = (x : Int)
    | .if_acmp _ off => ∀ x ∈ o, (pc : Int) + off = (x : Int)
    | .ifnull off => ∀ x ∈ o, (pc : Int) + off = (x : Int)
    | .ifnonnull off => ∀ x ∈ o, (pc : Int) + off = (x : Int)
    | .tableswitch dflt lo hi offs => ∀ d ∈ o, (∀ x : Int32, (x.toInt < lo ∨ hi < x.toInt) → (pc : Int) + dflt = (am_sw x t d : Nat)) ∧ ∀ x : Int32, ¬ x.toInt < lo → ¬ hi < x.toInt → ∃ off, offs[(x.toInt - lo).toNat]? = some off ∧ (pc : Int) + off = (am_sw x t d : Nat)
    | .lookupswitch dflt ps => (ps.toList.zip (ps.toList.drop 1)).all (fun (a, next) => a.1 < next.1) = true ∧ ∀ d ∈ o, ∀ x : Int32, (pc : Int) + Op.lookupswitch.offset ps.toList dflt x.toInt = (am_sw x t d : Nat)
    | _ => True
section SIMA
variable {p : Program} {l : Launch} {e : Env} {R : Room} {s : State} {m : MethodId} {args : Array Value} {below : List Frame} {meth : Method} {c : Code} {cc : ByteArray} {Q : State → Prop} {nL N0 S0 : Nat} {LS : List Nat} {G : am_H → Heap → List Loc → Prop}
def SW (p : Program) (l : Launch) (e : Env) (R : Room) (s : State) (m : MethodId) (args : Array Value) (below : List Frame) (meth : Method) (c : Code) (Q : State → Prop) (nL N0 S0 : Nat) (LS : List Nat) (G : am_H → Heap → List Loc → Prop) (fr : am_F) (h : am_H) : Prop :=
  ∀ (H : Heap) (locs : List Loc) (arr : Array Slot), am_l fr.2.1 arr nL → am_lg LS fr.2.1 → G h H locs → W p l e R s m args below meth c H locs (hN h - N0) (hS h - S0) Q (F0 m fr.1 arr (fr.2.2.map am_e))
theorem W.any {H : Heap} {locs : List Loc} {cells slots pc pc' : Nat} {arr arr' : Array Slot} {st st' : List Value} (h : ∀ T, At T m c below → ∀ tg, Steps p.tables e below (T.setTop (F0 m pc' arr' st')) tg → Steps p.tables e below (T.setTop (F0 m pc arr st)) tg)
    (k : W p l e R s m args below meth c H locs cells slots Q (F0 m pc' arr' st')) : W p l e R s m args below meth c H locs cells slots Q (F0 m pc arr st) := W.go h k
theorem am_nx_some {fr fr' : am_F} {h h' : am_H} {len : Nat} {st : List am_V} (he : am_nx fr h len st = some (Sum.inl (fr', h'))) : fr' = (fr.1 + len, (fr.2.1, st)) ∧ h' = h := by
  simp only [am_nx, Option.some.injEq, Sum.inl.injEq, Prod.mk.injEq] at he
  exact ⟨by rw [← he.1], he.2.symm⟩
theorem am_jp_some {fr fr' : am_F} {h h' : am_H} {pc : Nat} {st : List am_V} (he : am_jp fr h pc st = some (Sum.inl (fr', h'))) : fr' = (pc, (fr.2.1, st)) ∧ h' = h := by
  simp only [am_jp, Option.some.injEq, Sum.inl.injEq, Prod.mk.injEq] at he
  exact ⟨by rw [← he.1], he.2.symm⟩
theorem am_sv_some {fr fr' : am_F} {h h' : am_H} {len : Nat} {ls : List (Option am_V)} {st : List am_V} (he : am_sv fr h len ls st = some (Sum.inl (fr', h'))) : fr' = (fr.1 + len, (ls, st)) ∧ h' = h := by
  simp only [am_sv, Option.some.injEq, Sum.inl.injEq, Prod.mk.injEq] at he
  exact ⟨by rw [← he.1], he.2.symm⟩
variable {pc : Nat} {ls : List (Option am_V)} {st : List am_V} {h h' : am_H} {fr' : am_F}
/-- nothing but the stack: a row of the kit that goes from rest to rest' -/
theorem sw_push {len : Nat} {st' : List am_V} (row : ∀ (H : Heap) (locs : List Loc) (cells slots : Nat) (arr : Array Slot), W p l e R s m args below meth c H locs cells slots Q (F0 m (pc + len) arr (st'.map am_e)) → W p l e R s m args below meth c H locs cells slots Q (F0 m pc arr (st.map am_e)))
    (he : am_nx (pc, (ls, st)) h len st' = some (Sum.inl (fr', h'))) (k : SW p l e R s m args below meth c Q nL N0 S0 LS G fr' h') : SW p l e R s m args below meth c Q nL N0 S0 LS G (pc, (ls, st)) h := by
  obtain ⟨rfl, rfl⟩ := am_nx_some he
  intro H locs arr ha hg hG
  exact row H locs _ _ arr (k H locs arr ha hg hG)
theorem sw_iload {i len : Nat} (row : ∀ (H : Heap) (locs : List Loc) (cells slots : Nat) (arr : Array Slot) (x : Int32) (rest : List Value), arr[i]? = some (.val (.int x)) → W p l e R s m args below meth c H locs cells slots Q (F0 m (pc + len) arr (.int x :: rest)) → W p l e R s m args below meth c H locs cells slots Q (F0 m pc arr rest))
    (he : am_iload (pc, (ls, st)) h len i = some (Sum.inl (fr', h'))) (k : SW p l e R s m args below meth c Q nL N0 S0 LS G fr' h') : SW p l e R s m args below meth c Q nL N0 S0 LS G (pc, (ls, st)) h := by
  unfold am_iload at he
  split at he
  · rename_i x hx
    obtain ⟨rfl, rfl⟩ := am_nx_some he
    intro H locs arr ha hg hG
    exact row H locs _ _ arr x _ (ha.2.2 i _ hx) (k H locs arr ha hg hG)
  · cases he
theorem sw_lload {i len : Nat} (row : ∀ (H : Heap) (locs : List Loc) (cells slots : Nat) (arr : Array Slot) (x : Int64) (rest : List Value), arr[i]? = some (.val (.long x)) → W p l e R s m args below meth c H locs cells slots Q (F0 m (pc + len) arr (.long x :: rest)) → W p l e R s m args below meth c H locs cells slots Q (F0 m pc arr rest))
    (he : am_lload (pc, (ls, st)) h len i = some (Sum.inl (fr', h'))) (k : SW p l e R s m args below meth c Q nL N0 S0 LS G fr' h') : SW p l e R s m args below meth c Q nL N0 S0 LS G (pc, (ls, st)) h := by
  unfold am_lload at he
  split at he
  · rename_i x hx
    obtain ⟨rfl, rfl⟩ := am_nx_some he
    intro H locs arr ha hg hG
    exact row H locs _ _ arr x _ (ha.2.2 i _ hx) (k H locs arr ha hg hG)
  · cases he
theorem sw_aload {i len : Nat} (row : ∀ (H : Heap) (locs : List Loc) (cells slots : Nat) (arr : Array Slot) (x : Option Nat) (rest : List Value), arr[i]? = some (.val (va_rf x)) → W p l e R s m args below meth c H locs cells slots Q (F0 m (pc + len) arr (va_rf x :: rest)) → W p l e R s m args below meth c H locs cells slots Q (F0 m pc arr rest))
    (he : am_aload (pc, (ls, st)) h len i = some (Sum.inl (fr', h'))) (k : SW p l e R s m args below meth c Q nL N0 S0 LS G fr' h') : SW p l e R s m args below meth c Q nL N0 S0 LS G (pc, (ls, st)) h := by
  unfold am_aload at he
  split at he
  · rename_i x hx
    obtain ⟨rfl, rfl⟩ := am_nx_some he
    intro H locs arr ha hg hG
    exact row H locs _ _ arr x _ (ha.2.2 i _ hx) (k H locs arr ha hg hG)
  · cases he
theorem sw_istore {i len : Nat} {o : List Nat} (hi : i < nL) (ho : o = [] → ∀ j, j + 1 = i → j ∉ LS) (row : ∀ (H : Heap) (locs : List Loc) (cells slots : Nat) (arr arr' : Array Slot) (x : Int32) (rest : List Value), storeLocals arr i (.int x) = some arr' → W p l e R s m args below meth c H locs cells slots Q (F0 m (pc + len) arr' rest) → W p l e R s m args below meth c H locs cells slots Q (F0 m pc arr (.int x :: rest)))
    (he : am_istore o (pc, (ls, st)) h len i = some (Sum.inl (fr', h'))) (k : SW p l e R s m args below meth c Q nL N0 S0 LS G fr' h') : SW p l e R s m args below meth c Q nL N0 S0 LS G (pc, (ls, st)) h := by
  unfold am_istore at he
  split at he
  · rename_i x st' hx
    obtain ⟨rfl, rfl⟩ := am_sv_some he
    have hx : st = vI x :: st' := hx
    subst hx
    intro H locs arr ha hg hG
    obtain ⟨arr', e1, h1, h2⟩ := am_store1 (v := vI x) (o := o) ha hg hi rfl ho
    exact row H locs _ _ arr arr' x _ e1 (k H locs arr' h1 h2 hG)
  · cases he
theorem sw_astore {i len : Nat} {o : List Nat} (hi : i < nL) (ho : o = [] → ∀ j, j + 1 = i → j ∉ LS) (row : ∀ (H : Heap) (locs : List Loc) (cells slots : Nat) (arr arr' : Array Slot) (x : Option Nat) (rest : List Value), storeLocals arr i (va_rf x) = some arr' → W p l e R s m args below meth c H locs cells slots Q (F0 m (pc + len) arr' rest) → W p l e R s m args below meth c H locs cells slots Q (F0 m pc arr (va_rf x :: rest)))
    (he : am_astore o (pc, (ls, st)) h len i = some (Sum.inl (fr', h'))) (k : SW p l e R s m args below meth c Q nL N0 S0 LS G fr' h') : SW p l e R s m args below meth c Q nL N0 S0 LS G (pc, (ls, st)) h := by
  unfold am_astore at he
  split at he
  · rename_i x st' hx
    obtain ⟨rfl, rfl⟩ := am_sv_some he
    have hx : st = vR x :: st' := hx
    subst hx
    intro H locs arr ha hg hG
    obtain ⟨arr', e1, h1, h2⟩ := am_store1 (v := vR x) (o := o) ha hg hi rfl ho
    exact row H locs _ _ arr arr' x _ e1 (k H locs arr' h1 h2 hG)
  · cases he
theorem sw_lstore {i len : Nat} {o : List Nat} (hi : i + 1 < nL) (hin : i ∈ LS) (ho : o = [] → ∀ j, j + 1 = i → j ∉ LS) (row : ∀ (H : Heap) (locs : List Loc) (cells slots : Nat) (arr arr' : Array Slot) (x : Int64) (rest : List Value), storeLocals arr i (.long x) = some arr' → W p l e R s m args below meth c H locs cells slots Q (F0 m (pc + len) arr' rest) → W p l e R s m args below meth c H locs cells slots Q (F0 m pc arr (.long x :: rest)))
    (he : am_lstore o (pc, (ls, st)) h len i = some (Sum.inl (fr', h'))) (k : SW p l e R s m args below meth c Q nL N0 S0 LS G fr' h') : SW p l e R s m args below meth c Q nL N0 S0 LS G (pc, (ls, st)) h := by
  unfold am_lstore at he
  split at he
  · rename_i x st' hx
    obtain ⟨rfl, rfl⟩ := am_sv_some he
    have hx : st = vL x :: st' := hx
    subst hx
    intro H locs arr ha hg hG
    obtain ⟨arr', e1, h1, h2⟩ := am_store2 (y := x) (o := o) ha hg hi hin ho
    exact row H locs _ _ arr arr' x _ e1 (k H locs arr' h1 h2 hG)
  · cases he
theorem sw_ib {f : Int32 → Int32 → Int32} (row : ∀ (H : Heap) (locs : List Loc) (cells slots : Nat) (arr : Array Slot) (x y : Int32) (rest : List Value), W p l e R s m args below meth c H locs cells slots Q (F0 m (pc + 1) arr (.int (f x y) :: rest)) → W p l e R s m args below meth c H locs cells slots Q (F0 m pc arr (.int y :: .int x :: rest)))
    (he : am_ib (pc, (ls, st)) h f = some (Sum.inl (fr', h'))) (k : SW p l e R s m args below meth c Q nL N0 S0 LS G fr' h') : SW p l e R s m args below meth c Q nL N0 S0 LS G (pc, (ls, st)) h := by
  unfold am_ib at he
  split at he
  · rename_i y x st' hx
    have hx : st = vI y :: vI x :: st' := hx
    subst hx
    exact sw_push (fun H locs cells slots arr kk => row H locs cells slots arr x y _ kk) he k
  · cases he
theorem sw_lb {f : Int64 → Int64 → Int64} (row : ∀ (H : Heap) (locs : List Loc) (cells slots : Nat) (arr : Array Slot) (x y : Int64) (rest : List Value), W p l e R s m args below meth c H locs cells slots Q (F0 m (pc + 1) arr (.long (f x y) :: rest)) → W p l e R s m args below meth c H locs cells slots Q (F0 m pc arr (.long y :: .long x :: rest)))
    (he : am_lb (pc, (ls, st)) h f = some (Sum.inl (fr', h'))) (k : SW p l e R s m args below meth c Q nL N0 S0 LS G fr' h') : SW p l e R s m args below meth c Q nL N0 S0 LS G (pc, (ls, st)) h := by
  unfold am_lb at he
  split at he
  · rename_i y x st' hx
    have hx : st = vL y :: vL x :: st' := hx
    subst hx
    exact sw_push (fun H locs cells slots arr kk => row H locs cells slots arr x y _ kk) he k
  · cases he
theorem sw_iu {f : Int32 → am_V} (row : ∀ (H : Heap) (locs : List Loc) (cells slots : Nat) (arr : Array Slot) (x : Int32) (rest : List Value), W p l e R s m args below meth c H locs cells slots Q (F0 m (pc + 1) arr (am_e (f x) :: rest)) → W p l e R s m args below meth c H locs cells slots Q (F0 m pc arr (.int x :: rest)))
    (he : am_iu (pc, (ls, st)) h f = some (Sum.inl (fr', h'))) (k : SW p l e R s m args below meth c Q nL N0 S0 LS G fr' h') : SW p l e R s m args below meth c Q nL N0 S0 LS G (pc, (ls, st)) h := by
  unfold am_iu at he
  split at he
  · rename_i x st' hx
    have hx : st = vI x :: st' := hx
    subst hx
    exact sw_push (fun H locs cells slots arr kk => row H locs cells slots arr x _ kk) he k
  · cases he
theorem sw_if {o : List Nat} {C : Prop} [Decidable C] {st' : List am_V} (off : Int) (ht : ∀ x ∈ o, (pc : Int) + off = (x : Int)) (row : ∀ (tgt : Nat), (pc : Int) + off = (tgt : Int) → ∀ (H : Heap) (locs : List Loc) (cells slots : Nat) (arr : Array Slot), (C → W p l e R s m args below meth c H locs cells slots Q (F0 m tgt arr (st'.map am_e))) → (¬ C → W p l e R s m args below meth c H locs cells slots Q (F0 m (pc + 3) arr (st'.map am_e))) → W p l e R s m args below meth c H locs cells slots Q (F0 m pc arr (st.map am_e)))
    (he : am_if (pc, (ls, st)) h o C st' = some (Sum.inl (fr', h'))) (k : SW p l e R s m args below meth c Q nL N0 S0 LS G fr' h') : SW p l e R s m args below meth c Q nL N0 S0 LS G (pc, (ls, st)) h := by
  unfold am_if at he
  split at he
  · rename_i t ts
    have ht := ht t (List.mem_cons_self)
    by_cases q : C
    · rw [if_pos q] at he
      obtain ⟨rfl, rfl⟩ := am_jp_some he
      intro H locs arr ha hg hG
      exact row t ht H locs _ _ arr (fun _ => k H locs arr ha hg hG) (fun z => absurd q z)
    · rw [if_neg q] at he
      obtain ⟨rfl, rfl⟩ := am_nx_some he
      intro H locs arr ha hg hG
      exact row t ht H locs _ _ arr (fun z => absurd z q) (fun _ => k H locs arr ha hg hG)
  · cases he
theorem sw_if1 {o : List Nat} {C : Int32 → Prop} [DecidablePred C] (off : Int) (ht : ∀ x ∈ o, (pc : Int) + off = (x : Int)) (row : ∀ (tgt : Nat), (pc : Int) + off = (tgt : Int) → ∀ (H : Heap) (locs : List Loc) (cells slots : Nat) (arr : Array Slot) (x : Int32) (rest : List Value), (C x → W p l e R s m args below meth c H locs cells slots Q (F0 m tgt arr rest)) → (¬ C x → W p l e R s m args below meth c H locs cells slots Q (F0 m (pc + 3) arr rest)) → W p l e R s m args below meth c H locs cells slots Q (F0 m pc arr (.int x :: rest)))
    (he : am_if1 (pc, (ls, st)) h o C = some (Sum.inl (fr', h'))) (k : SW p l e R s m args below meth c Q nL N0 S0 LS G fr' h') : SW p l e R s m args below meth c Q nL N0 S0 LS G (pc, (ls, st)) h := by
  unfold am_if1 at he
  split at he
  · rename_i x st' hx
    have hx : st = vI x :: st' := hx
    subst hx
    exact sw_if off ht (fun tgt h1 H locs cells slots arr k1 k2 => row tgt h1 H locs cells slots arr x _ k1 k2) he k
  · cases he
theorem sw_if2 {o : List Nat} {C : Int32 → Int32 → Prop} [∀ x y, Decidable (C x y)] (off : Int) (ht : ∀ x ∈ o, (pc : Int) + off = (x : Int)) (row : ∀ (tgt : Nat), (pc : Int) + off = (tgt : Int) → ∀ (H : Heap) (locs : List Loc) (cells slots : Nat) (arr : Array Slot) (x y : Int32) (rest : List Value), (C x y → W p l e R s m args below meth c H locs cells slots Q (F0 m tgt arr rest)) → (¬ C x y → W p l e R s m args below meth c H locs cells slots Q (F0 m (pc + 3) arr rest)) → W p l e R s m args below meth c H locs cells slots Q (F0 m pc arr (.int y :: .int x :: rest)))
    (he : am_if2 (pc, (ls, st)) h o C = some (Sum.inl (fr', h'))) (k : SW p l e R s m args below meth c Q nL N0 S0 LS G fr' h') : SW p l e R s m args below meth c Q nL N0 S0 LS G (pc, (ls, st)) h := by
  unfold am_if2 at he
  split at he
  · rename_i y x st' hx
    have hx : st = vI y :: vI x :: st' := hx
    subst hx
    exact sw_if off ht (fun tgt h1 H locs cells slots arr k1 k2 => row tgt h1 H locs cells slots arr x y _ k1 k2) he k
  · cases he
theorem lw9_aload {H : Heap} {locs : List Loc} {cells slots pc i : Nat} {arr : Array Slot} {x : Option Nat} {rest : List Value} (hx : p.tables.exec = Jvm.exec) (hb : c.code = cc) (hd : decode cc pc = .ok (.aload i, 2)) (hl : arr[i]? = some (.val (va_rf x))) (k : W p l e R s m args below meth c H locs cells slots Q (F0 m (pc + 2) arr (va_rf x :: rest))) : W p l e R s m args below meth c H locs cells slots Q (F0 m pc arr rest) := by
  cases x with
  | none => exact lv_aloadN hx hb hd hl k
  | some a => exact lv_aload hx hb hd hl k
theorem lw9_aload_n {H : Heap} {locs : List Loc} {cells slots pc : Nat} {i : Fin 4} {arr : Array Slot} {x : Option Nat} {rest : List Value} (hx : p.tables.exec = Jvm.exec) (hb : c.code = cc) (hd : decode cc pc = .ok (.aload_n i, 1)) (hl : arr[(i : Nat)]? = some (.val (va_rf x))) (k : W p l e R s m args below meth c H locs cells slots Q (F0 m (pc + 1) arr (va_rf x :: rest))) : W p l e R s m args below meth c H locs cells slots Q (F0 m pc arr rest) := by
  cases x with
  | none => exact lv_aload_nN hx hb hd rfl hl k
  | some a => exact lv_aload_n hx hb hd rfl hl k
theorem lw9_st {H : Heap} {locs : List Loc} {cells slots pc len i : Nat} {arr arr' : Array Slot} {v : Value} {rest : List Value} (e' : storeLocals arr i v = some arr') (h : ∀ T, At T m c below → ∀ tg, Steps p.tables e below (T.setTop (F0 m (pc + len) arr' rest)) tg → Steps p.tables e below (T.setTop (F0 m pc arr (v :: rest))) tg) (k : W p l e R s m args below meth c H locs cells slots Q (F0 m (pc + len) arr' rest)) : W p l e R s m args below meth c H locs cells slots Q (F0 m pc arr (v :: rest)) := W.go h k
theorem lw9_istore {H : Heap} {locs : List Loc} {cells slots pc i : Nat} {arr arr' : Array Slot} {x : Int32} {rest : List Value} (hexec : p.tables.exec = Jvm.exec) (hb : c.code = cc) (hdg : decode cc pc = .ok (.istore i, 2)) (e' : storeLocals arr i (.int x) = some arr') (k : W p l e R s m args below meth c H locs cells slots Q (F0 m (pc + 2) arr' rest)) : W p l e R s m args below meth c H locs cells slots Q (F0 m pc arr (.int x :: rest)) := by
  intro T hT X
  obtain ⟨t, a, b⟩ := k T hT X
  refine ⟨t, ?_, b⟩
  jvm_step X.here [X.here.top, ↓top_set X.here.top, hexec, hb, hdg, e']
  exact a
theorem lw9_istore_n {H : Heap} {locs : List Loc} {cells slots pc : Nat} {i : Fin 4} {arr arr' : Array Slot} {x : Int32} {rest : List Value} (hexec : p.tables.exec = Jvm.exec) (hb : c.code = cc) (hdg : decode cc pc = .ok (.istore_n i, 1)) (e' : storeLocals arr (i : Nat) (.int x) = some arr') (k : W p l e R s m args below meth c H locs cells slots Q (F0 m (pc + 1) arr' rest)) : W p l e R s m args below meth c H locs cells slots Q (F0 m pc arr (.int x :: rest)) := by
  intro T hT X
  obtain ⟨t, a, b⟩ := k T hT X
  refine ⟨t, ?_, b⟩
  jvm_step X.here [X.here.top, ↓top_set X.here.top, hexec, hb, hdg, e']
  exact a
theorem lw9_lstore {H : Heap} {locs : List Loc} {cells slots pc i : Nat} {arr arr' : Array Slot} {x : Int64} {rest : List Value} (hexec : p.tables.exec = Jvm.exec) (hb : c.code = cc) (hdg : decode cc pc = .ok (.lstore i, 2)) (e' : storeLocals arr i (.long x) = some arr') (k : W p l e R s m args below meth c H locs cells slots Q (F0 m (pc + 2) arr' rest)) : W p l e R s m args below meth c H locs cells slots Q (F0 m pc arr (.long x :: rest)) := by
  intro T hT X
  obtain ⟨t, a, b⟩ := k T hT X
  refine ⟨t, ?_, b⟩
  jvm_step X.here [X.here.top, ↓top_set X.here.top, hexec, hb, hdg, e']
  exact a
theorem lw9_lstore_n {H : Heap} {locs : List Loc} {cells slots pc : Nat} {i : Fin 4} {arr arr' : Array Slot} {x : Int64} {rest : List Value} (hexec : p.tables.exec = Jvm.exec) (hb : c.code = cc) (hdg : decode cc pc = .ok (.lstore_n i, 1)) (e' : storeLocals arr (i : Nat) (.long x) = some arr') (k : W p l e R s m args below meth c H locs cells slots Q (F0 m (pc + 1) arr' rest)) : W p l e R s m args below meth c H locs cells slots Q (F0 m pc arr (.long x :: rest)) := by
  intro T hT X
  obtain ⟨t, a, b⟩ := k T hT X
  refine ⟨t, ?_, b⟩
  jvm_step X.here [X.here.top, ↓top_set X.here.top, hexec, hb, hdg, e']
  exact a
theorem lw9_astore {H : Heap} {locs : List Loc} {cells slots pc i : Nat} {arr arr' : Array Slot} {x : Option Nat} {rest : List Value} (hexec : p.tables.exec = Jvm.exec) (hb : c.code = cc) (hdg : decode cc pc = .ok (.astore i, 2)) (e' : storeLocals arr i (va_rf x) = some arr') (k : W p l e R s m args below meth c H locs cells slots Q (F0 m (pc + 2) arr' rest)) : W p l e R s m args below meth c H locs cells slots Q (F0 m pc arr (va_rf x :: rest)) := by
  intro T hT X
  obtain ⟨t, a, b⟩ := k T hT X
  refine ⟨t, ?_, b⟩
  cases x with
  | none =>
    have e' : storeLocals arr i .null = some arr' := e'
    show Steps p.tables e below (T.setTop (F0 m pc arr (.null :: rest))) t
    jvm_step X.here [X.here.top, ↓top_set X.here.top, hexec, hb, hdg, e']
    exact ⟨rfl, a⟩
  | some q =>
    have e' : storeLocals arr i (.ref q) = some arr' := e'
    show Steps p.tables e below (T.setTop (F0 m pc arr (.ref q :: rest))) t
    jvm_step X.here [X.here.top, ↓top_set X.here.top, hexec, hb, hdg, e']
    exact ⟨rfl, a⟩
theorem lw9_astore_n {H : Heap} {locs : List Loc} {cells slots pc : Nat} {i : Fin 4} {arr arr' : Array Slot} {x : Option Nat} {rest : List Value} (hexec : p.tables.exec = Jvm.exec) (hb : c.code = cc) (hdg : decode cc pc = .ok (.astore_n i, 1)) (e' : storeLocals arr (i : Nat) (va_rf x) = some arr') (k : W p l e R s m args below meth c H locs cells slots Q (F0 m (pc + 1) arr' rest)) : W p l e R s m args below meth c H locs cells slots Q (F0 m pc arr (va_rf x :: rest)) := by
  intro T hT X
  obtain ⟨t, a, b⟩ := k T hT X
  refine ⟨t, ?_, b⟩
  cases x with
  | none =>
    have e' : storeLocals arr (i : Nat) .null = some arr' := e'
    show Steps p.tables e below (T.setTop (F0 m pc arr (.null :: rest))) t
    jvm_step X.here [X.here.top, ↓top_set X.here.top, hexec, hb, hdg, e']
    exact ⟨rfl, a⟩
  | some q =>
    have e' : storeLocals arr (i : Nat) (.ref q) = some arr' := e'
    show Steps p.tables e below (T.setTop (F0 m pc arr (.ref q :: rest))) t
    jvm_step X.here [X.here.top, ↓top_set X.here.top, hexec, hb, hdg, e']
    exact ⟨rfl, a⟩
theorem lw9_iinc {H : Heap} {locs : List Loc} {cells slots pc i : Nat} {n : Int} {arr arr' : Array Slot} {x : Int32} {rest : List Value} (hexec : p.tables.exec = Jvm.exec) (hb : c.code = cc) (hdg : decode cc pc = .ok (.iinc i n, 3)) (hl : arr[i]? = some (.val (.int x))) (e' : storeLocals arr i (.int (x + Int32.ofInt n)) = some arr') (k : W p l e R s m args below meth c H locs cells slots Q (F0 m (pc + 3) arr' rest)) : W p l e R s m args below meth c H locs cells slots Q (F0 m pc arr rest) := by
  intro T hT X
  obtain ⟨t, a, b⟩ := k T hT X
  refine ⟨t, ?_, b⟩
  jvm_step X.here [X.here.top, ↓top_set X.here.top, hexec, hb, hdg, hl, e']
  exact a
theorem lw9_acmp_eq {H : Heap} {locs : List Loc} {cells slots pc tgt : Nat} {off : Int} {arr : Array Slot} {x y : Option Nat} {rest : List Value} (hx : p.tables.exec = Jvm.exec) (hb : c.code = cc) (hd : decode cc pc = .ok (.ifnull off, 3)) (ht : (pc : Int) + off = (tgt : Int)) (kt : x = none → W p l e R s m args below meth c H locs cells slots Q (F0 m tgt arr rest)) (kf : ¬ x = none → W p l e R s m args below meth c H locs cells slots Q (F0 m (pc + 3) arr rest)) : W p l e R s m args below meth c H locs cells slots Q (F0 m pc arr (va_rf x :: rest)) := by
  cases x with
  | none => exact lv_ifnullN hx hb hd ht (kt rfl)
  | some a => exact lv_ifnull hx hb hd (kf (by simp))
theorem lw9_nonnull {H : Heap} {locs : List Loc} {cells slots pc tgt : Nat} {off : Int} {arr : Array Slot} {x : Option Nat} {rest : List Value} (hx : p.tables.exec = Jvm.exec) (hb : c.code = cc) (hd : decode cc pc = .ok (.ifnonnull off, 3)) (ht : (pc : Int) + off = (tgt : Int)) (kt : x ≠ none → W p l e R s m args below meth c H locs cells slots Q (F0 m tgt arr rest)) (kf : ¬ x ≠ none → W p l e R s m args below meth c H locs cells slots Q (F0 m (pc + 3) arr rest)) : W p l e R s m args below meth c H locs cells slots Q (F0 m pc arr (va_rf x :: rest)) := by
  cases x with
  | none => exact lv_ifnonnullN hx hb hd (kf (by simp))
  | some a => exact lv_ifnonnull hx hb hd ht (kt (by simp))
/-- instructions that neither read nor write the heap, nor ask the tables -/
def am_pure (ins : Instr) : Bool := match ins with
  | .aconst_null | .iconst _ | .bipush _ | .sipush _ | .lconst _ | .iload _ | .iload_n _ | .lload _ | .lload_n _ | .aload _ | .aload_n _ | .istore _ | .istore_n _ | .lstore _ | .lstore_n _ | .astore _ | .astore_n _ | .iinc _ _ => true
  | .pop | .dup | .dup_x1 | .dup_x2 | .dup2 | .iadd | .isub | .imul | .iand | .ior | .ixor | .ishl | .ishr | .iushr | .idiv | .irem | .lrem | .ineg | .ladd | .lmul | .lor | .land | .lxor | .lshl | .lushr | .lcmp | .i2l | .i2b | .i2c | .l2i => true
  | .goto _ | .ifCond _ _ | .if_icmp _ _ | .if_acmp _ _ | .ifnull _ | .ifnonnull _ | .tableswitch _ _ _ _ | .lookupswitch _ _ => true
  | _ => false
end SIMA
