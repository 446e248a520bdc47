/-! COMPONENT, 7: texts of the constants, words as numbers *-/
def cT : Nat → List Int32
  | 0 => [97, 108, 108]
  | 1 => [112, 108, 97, 105, 110]
  | 2 => [108, 111, 111, 115, 101]
  | 3 => [101, 114, 114, 111, 114]
  | 4 => [123, 125, 40, 41, 59, 44, 124]
  | 5 => [107, 105, 110, 100]
  | 6 => [32, 107, 105, 110, 100, 32, 98, 101, 108, 111, 119, 32, 119, 97, 121, 32, 111, 118, 101, 114, 32, 102, 114, 101, 101, 32, 116, 104, 114, 111, 119, 115, 32, 100, 111, 32, 99, 97, 108, 108, 32, 116, 104, 114, 111, 119, 32, 115, 101, 116, 32, 105, 102, 32, 101, 108, 115, 101, 32, 119, 104, 105, 108, 101, 32, 108, 111, 111, 112, 32, 98, 114, 101, 97, 107, 32, 114, 101, 116, 117, 114, 110, 32, 116, 114, 121, 32, 99, 97, 116, 99, 104, 32, 102, 105, 110, 97, 108, 108, 121, 32, 114, 117, 110, 32]
  | 7 => [32]
  | 8 => [98, 101, 108, 111, 119]
  | 9 => [119, 97, 121]
  | 10 => [111, 118, 101, 114]
  | 11 => [102, 114, 101, 101]
  | 12 => [116, 104, 114, 111, 119, 115]
  | 13 => [32, 100, 111, 32, 99, 97, 108, 108, 32, 116, 104, 114, 111, 119, 32, 115, 101, 116, 32, 105, 102, 32, 119, 104, 105, 108, 101, 32, 108, 111, 111, 112, 32, 98, 114, 101, 97, 107, 32, 114, 101, 116, 117, 114, 110, 32, 116, 114, 121, 32, 114, 117, 110, 32]
  | 14 => [100, 111]
  | 15 => [99, 97, 108, 108]
  | 16 => [116, 104, 114, 111, 119]
  | 17 => [115, 101, 116]
  | 18 => [105, 102]
  | 19 => [119, 104, 105, 108, 101]
  | 20 => [108, 111, 111, 112]
  | 21 => [98, 114, 101, 97, 107]
  | 22 => [114, 101, 116, 117, 114, 110]
  | 23 => [116, 114, 121]
  | 24 => [101, 108, 115, 101]
  | 25 => [99, 97, 116, 99, 104]
  | 26 => [102, 105, 110, 97, 108, 108, 121]
  | _ => []
/-- the constants lie there -/
def CS (v : vT) : Prop := ∀ k, k ≤ 26 → hK v.1 (hE v.1 k) = 11 ∧ vTx v (hE v.1 k) = cT k
theorem CS_fw {X : Nat → Nat → Prop} {v v' : vT} (f : Fw X v v') (c : CS v) (hx : ∀ a, X a 99 → hK v.1 a ≠ 11) : CS v' := by
  intro k hk
  obtain ⟨c1, c2⟩ := c k hk
  rw [f.2.1 k]
  refine ⟨f.kk c1 (by decide), ?_⟩
  rw [(f.cc (hK_lt c1 (by decide)) (fun z => hx _ z c1)).2.2.2]
  exact c2
/-! words as numbers -/
def wR : List Int32 → Int
  | [] => 0
  | c :: L => wR L * 256 + c.toInt
def wN (T : List Int32) : Int := wR T.reverse
theorem wN_snoc (T : List Int32) (c : Int32) : wN (T ++ [c]) = wN T * 256 + c.toInt := by
  unfold wN
  rw [List.reverse_append]
  rfl
/-- letters only -/
def lts (T : List Int32) : Prop := ∀ x, x ∈ T → 97 ≤ x.toInt ∧ x.toInt ≤ 122
theorem wR_pos : ∀ L, lts L → 0 ≤ wR L ∧ (L ≠ [] → 97 ≤ wR L)
  | [], _ => ⟨by decide, fun z => absurd rfl z⟩
  | c :: L, h => by
    have := wR_pos L (fun x hx => h x (List.mem_cons_of_mem _ hx))
    have := h c List.mem_cons_self
    rw [wR]
    exact ⟨by omega, fun _ => by omega⟩
theorem wR_inj : ∀ L M, lts L → lts M → wR L = wR M → L = M
  | [], [], _, _, _ => rfl
  | [], c :: M, _, h, e => by
    have := (wR_pos (c :: M) h).2 (by simp)
    rw [← e] at this
    exact absurd this (by decide)
  | c :: L, [], h, _, e => by
    have := (wR_pos (c :: L) h).2 (by simp)
    rw [e] at this
    exact absurd this (by decide)
  | c :: L, d :: M, h, k, e => by
    have h1 := h c List.mem_cons_self
    have h2 := k d List.mem_cons_self
    rw [wR, wR] at e
    have e1 : c.toInt = d.toInt := by omega
    rw [Int32.toInt_inj.mp e1, wR_inj L M (fun x hx => h x (List.mem_cons_of_mem _ hx)) (fun x hx => k x (List.mem_cons_of_mem _ hx)) (by omega)]
theorem lts_rev {T : List Int32} (h : lts T) : lts T.reverse := fun x hx => h x (List.mem_reverse.mp hx)
theorem wN_inj {T V : List Int32} (h : lts T) (k : lts V) : wN T = wN V ↔ T = V :=
  ⟨fun e => List.reverse_inj.mp (wR_inj _ _ (lts_rev h) (lts_rev k) e), fun e => by rw [e]⟩
theorem wN_0 {T : List Int32} (h : lts T) : wN T = 0 ↔ T = [] := by
  constructor
  · intro e
    refine Classical.byContradiction fun q => ?_
    have := (wR_pos T.reverse (lts_rev h)).2 (fun z => q (List.reverse_eq_nil_iff.mp z))
    unfold wN at e
    omega
  · intro e
    rw [e]
    rfl
theorem fnd_iff (V S : List Int32) : ∀ d i, 0 ≤ fndI V S d i ↔ ∃ j, i ≤ j ∧ j < i + d ∧ (V.drop j).take S.length = S := by
  intro d
  induction d with
  | zero =>
    intro i
    rw [fndI]
    exact ⟨fun z => absurd z (by decide), fun ⟨j, a, b, _⟩ => by omega⟩
  | succ d ih =>
    intro i
    rw [fndI]
    by_cases p : (V.drop i).take S.length = S
    · rw [if_pos p]
      exact ⟨fun _ => ⟨i, by omega, by omega, p⟩, fun _ => by omega⟩
    · rw [if_neg p, ih]
      constructor
      · rintro ⟨j, a, b, c⟩
        exact ⟨j, by omega, by omega, c⟩
      · rintro ⟨j, a, b, c⟩
        by_cases e : j = i
        · rw [e] at c
          exact absurd c p
        · exact ⟨j, by omega, by omega, c⟩
/-- the word at a place, if one stands there between blanks -/
def wAt (V : List Int32) (i : Nat) : List Int32 := (V.drop (i + 1)).takeWhile (fun x => decide (97 ≤ x.toInt ∧ x.toInt ≤ 122))
theorem wAt_eq {V T : List Int32} {i : Nat} (lt : lts T) (e : (V.drop i).take (T.length + 2) = 32 :: (T ++ [32])) : wAt V i = T ∧ V.getD i 0 = 32 ∧ V.getD (i + 1 + T.length) 0 = 32 := by
  have e2 : V.drop i = 32 :: (T ++ 32 :: V.drop (i + (T.length + 2))) := by
    have := List.take_append_drop (T.length + 2) (V.drop i)
    rw [e, List.drop_drop] at this
    rw [← this]
    simp
  have e3 : V.drop (i + 1) = T ++ 32 :: V.drop (i + (T.length + 2)) := by
    have := congrArg (List.drop 1) e2
    rw [List.drop_drop] at this
    exact this
  have g : ∀ j, V.getD (i + j) 0 = (V.drop i).getD j 0 := fun j => by
    rw [List.getD_eq_getElem?_getD, List.getD_eq_getElem?_getD, List.getElem?_drop]
  refine ⟨?_, ?_, ?_⟩
  · unfold wAt
    rw [e3, List.takeWhile_append_of_pos (fun x hx => by simpa using lt x hx), List.takeWhile_cons]
    simp
  · have := g 0
    rw [Nat.add_zero] at this
    rw [this, e2]
    rfl
  · rw [show i + 1 + T.length = i + (T.length + 1) by omega, g, e2]
    simp [List.getD_eq_getElem?_getD]
def kws (V : List Int32) : List (List Int32) := ((List.range V.length).filter (fun i => decide (V.getD i 0 = 32) && decide (V.getD (i + 1 + (wAt V i).length) 0 = 32))).map (wAt V)
theorem kws_iff {V T : List Int32} (lt : lts T) (t1 : T ≠ []) (tl : T.length + 2 ≤ V.length) (al : ∀ i, i < V.length → V.getD i 0 = 32 → V.getD (i + 1 + (wAt V i).length) 0 = 32 → wAt V i ≠ [] → (V.drop i).take ((wAt V i).length + 2) = 32 :: (wAt V i ++ [32])) :
    0 ≤ fndI V (32 :: (T ++ [32])) (V.length - (32 :: (T ++ [32])).length + 1) 0 ↔ T ∈ kws V := by
  have ln : (32 :: (T ++ [32])).length = T.length + 2 := by simp
  rw [fnd_iff, ln]
  unfold kws
  rw [List.mem_map]
  constructor
  · rintro ⟨j, a, b, e⟩
    obtain ⟨x1, x2, x3⟩ := wAt_eq lt e
    refine ⟨j, ?_, x1⟩
    rw [List.mem_filter, List.mem_range]
    refine ⟨by omega, ?_⟩
    rw [x1, Bool.and_eq_true, decide_eq_true_eq, decide_eq_true_eq]
    exact ⟨x2, x3⟩
  · rintro ⟨j, a, e⟩
    rw [List.mem_filter, List.mem_range, Bool.and_eq_true, decide_eq_true_eq, decide_eq_true_eq] at a
    have z := al j a.1 a.2.1 a.2.2 (by rw [e]; exact t1)
    rw [e] at z
    refine ⟨j, by omega, ?_, z⟩
    have := congrArg List.length z
    rw [List.length_take, List.length_drop] at this
    simp only [List.length_cons, List.length_append, List.length_nil] at this
    omega
