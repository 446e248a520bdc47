/-! JDK: texts, 6: the order of words and their numbers *-/
section ORD
variable {T U : List Int32}
theorem encT_b (b : Int32) : (b &&& 255).toInt = (btN b : Int) := by
  rw [(bt_and b).1]
  have := btN_lt b
  exact iI_toInt (by omega) (by omega)
theorem p256 (n : Nat) : (0 : Int) < 256 ^ n := Int.pow_pos (by decide)
theorem encT_cons (n : Nat) (b : Int32) (l : List Int32) : encT (n + 1) (b :: l) = (b &&& 255).toInt * 256 ^ n + encT n l := rfl
theorem encT_lo (n : Nat) : ∀ T : List Int32, 0 ≤ encT n T ∧ encT n T < 256 ^ n := by
  induction n with
  | zero => intro T; exact ⟨by unfold encT; omega, by unfold encT; decide⟩
  | succ n ih =>
    intro T
    cases T with
    | nil =>
      unfold encT
      have := p256 (n + 1)
      omega
    | cons b l =>
      unfold encT
      have h1 := ih l
      have h2 := btN_lt b
      rw [encT_b, Int.pow_succ]
      have h3 : (btN b : Int) * 256 ^ n + 256 ^ n ≤ 256 ^ n * 256 := by
        have : (btN b : Int) + 1 ≤ 256 := by omega
        have := Int.mul_le_mul_of_nonneg_right this (Int.le_of_lt (p256 n))
        rw [Int.add_mul, Int.one_mul] at this
        rw [Int.mul_comm (256 ^ n) 256]
        exact this
      have h4 : 0 ≤ (btN b : Int) * 256 ^ n := Int.mul_nonneg (by omega) (Int.le_of_lt (p256 n))
      omega
theorem encT_nil (n : Nat) : encT n [] = 0 := by cases n <;> rfl
theorem encT_pos (n : Nat) {b : Int32} {l : List Int32} (h : 0 < btN b) : 0 < encT (n + 1) (b :: l) := by
  unfold encT
  have h1 := encT_lo n l
  rw [encT_b]
  have : 0 < (btN b : Int) * 256 ^ n := Int.mul_pos (by omega) (p256 n)
  omega
theorem let_b {x : Int32} (h1 : 97 ≤ x.toInt) (h2 : x.toInt ≤ 122) : (btN x : Int) = x.toInt := by
  have e : x = iI x.toInt := (iI_of x).symm
  rw [← encT_b, e]
  have : ∀ k : Fin 128, (iI ((k.val : Nat) : Int) &&& 255).toInt = ((k.val : Nat) : Int) := by decide
  have := this ⟨x.toInt.toNat, by omega⟩
  rw [show ((x.toInt.toNat : Nat) : Int) = x.toInt by omega] at this
  rw [this, iI_toInt (by omega) (by omega)]
theorem enc_cons {n : Nat} {x y : Int32} {T U : List Int32} (h : btN x < btN y) : encT (n + 1) (x :: T) < encT (n + 1) (y :: U) := by
  unfold encT
  have h1 := encT_lo n T
  have h2 := encT_lo n U
  rw [encT_b, encT_b]
  have : (btN x : Int) + 1 ≤ btN y := by omega
  have := Int.mul_le_mul_of_nonneg_right this (Int.le_of_lt (p256 n))
  rw [Int.add_mul, Int.one_mul] at this
  omega
theorem drop_mem {T : List Int32} {i : Nat} (hi : i < T.length) : T.getD i 0 ∈ T := by
  rw [List.getD_eq_getElem?_getD, List.getElem?_eq_getElem hi]
  exact List.getElem_mem hi
theorem cmp_step (kT : okK T) (kU : okK U) : ∀ (d i n : Nat), i + d = min T.length U.length → n + i = 8 →
    ((if misI T U d i < 0 then (T.length : Int) - U.length else (btN (T.getD (misI T U d i).toNat 0) : Int) - btN (U.getD (misI T U d i).toNat 0)) < 0 ↔ encT n (T.drop i) < encT n (U.drop i)) := by
  intro d
  induction d with
  | zero =>
    intro i n hi hn
    rw [misI, if_pos (by decide)]
    rcases Nat.lt_trichotomy T.length U.length with z | z | z
    · rw [List.drop_eq_nil_of_le (by omega), encT_nil, dropE (d := 0) (i := i) (T := U) (by omega)]
      have hm := kU.2 _ (drop_mem (T := U) (i := i) (by omega))
      have hb := let_b hm.1 hm.2
      have h8 := kU.1
      obtain ⟨m, rfl⟩ : ∃ m, n = m + 1 := ⟨n - 1, by omega⟩
      have := encT_pos m (b := U.getD i 0) (l := U.drop (i + 1)) (by omega)
      constructor <;> intro _ <;> omega
    · rw [List.drop_eq_nil_of_le (by omega), List.drop_eq_nil_of_le (by omega)]
      constructor <;> intro _ <;> omega
    · rw [List.drop_eq_nil_of_le (as := U) (by omega), encT_nil]
      have := encT_lo n (T.drop i)
      constructor <;> intro _ <;> omega
  | succ d ih =>
    intro i n hi hn
    obtain ⟨m, rfl⟩ : ∃ m, n = m + 1 := ⟨n - 1, by have := kT.1; omega⟩
    have hT := dropE (d := 0) (i := i) (T := T) (by omega)
    have hU := dropE (d := 0) (i := i) (T := U) (by omega)
    have step := ih (i + 1) m (by omega) (by omega)
    rw [misI]
    by_cases p : T.getD i 0 = U.getD i 0
    · rw [if_pos p]
      refine step.trans ?_
      rw [hT, hU, p, encT_cons, encT_cons]
      constructor <;> intro _ <;> omega
    · rw [if_neg p, if_neg (by omega), Int.toNat_natCast, hT, hU]
      have mT := kT.2 _ (drop_mem (T := T) (i := i) (by omega))
      have mU := kU.2 _ (drop_mem (T := U) (i := i) (by omega))
      have bT := let_b mT.1 mT.2
      have bU := let_b mU.1 mU.2
      have ne : btN (T.getD i 0) ≠ btN (U.getD i 0) := by
        intro z
        apply p
        apply Int32.toInt_inj.mp
        omega
      rcases Nat.lt_or_gt_of_ne ne with z | z
      · have := enc_cons (n := m) (T := T.drop (i + 1)) (U := U.drop (i + 1)) z
        constructor <;> intro _ <;> omega
      · have := enc_cons (n := m) (T := U.drop (i + 1)) (U := T.drop (i + 1)) z
        constructor <;> intro _ <;> omega
theorem cmp_lt (kT : okK T) (kU : okK U) : cmpV T U < 0 ↔ encT 8 T < encT 8 U := by
  have := cmp_step kT kU (min T.length U.length) 0 8 (by omega) (by omega)
  rw [List.drop_zero, List.drop_zero] at this
  exact this
theorem cmp_ne (oT : okB T) (oU : okB U) (ne : T ≠ U) : cmpV T U ≠ 0 := by
  unfold cmpV
  have LO := mis_lo T U (min T.length U.length) 0
  split
  · rename_i p
    intro z
    apply ne
    apply List.ext_getElem (by omega)
    intro i h1 h2
    have := mis_eq T U (min T.length U.length) 0 i (by omega) (by omega) (Or.inl (by omega))
    rw [List.getD_eq_getElem?_getD, List.getElem?_eq_getElem h1, List.getD_eq_getElem?_getD, List.getElem?_eq_getElem h2] at this
    exact this
  · rename_i p
    rcases LO with z | ⟨z1, z2, z3⟩
    · omega
    · intro z
      exact z3 (btN_inj (oT _ (drop_mem (by omega))) (oU _ (drop_mem (by omega))) (by omega))
/-- words have bytes of their own -/
theorem okK.b (k : okK T) : okB T := by
  intro x hx
  have := k.2 x hx
  have e : x = iI x.toInt := (iI_of x).symm
  rw [e]
  have c : ∀ k : Fin 128, (iI ((k.val : Nat) : Int)).toInt8.toInt32 = iI ((k.val : Nat) : Int) := by decide
  have := c ⟨x.toInt.toNat, by omega⟩
  rw [show ((x.toInt.toNat : Nat) : Int) = x.toInt by omega] at this
  exact this
theorem cmp_eq (kT : okK T) (kU : okK U) (e : encT 8 T = encT 8 U) : T = U := by
  refine Classical.byContradiction fun ne => ?_
  have h1 := cmp_lt kT kU
  have h2 := cmp_ne kT.b kU.b ne
  have h3 := cmp_lt kU kT
  have h4 := cmp_ne kU.b kT.b (Ne.symm ne)
  have hA : cmpV T U > 0 := by omega
  have hB : cmpV U T > 0 := by omega
  clear h1 h2 h3 h4
  have key : ∀ (d i : Nat), i + d = min T.length U.length → misI T U d i = misI U T d i := by
    intro d
    induction d with
    | zero => intro i _; rfl
    | succ d ih =>
      intro i hi
      rw [misI, misI, ih (i + 1) (by omega)]
      by_cases p : T.getD i 0 = U.getD i 0
      · rw [if_pos p, if_pos p.symm]
      · rw [if_neg p, if_neg (Ne.symm p)]
  have key := key (min T.length U.length) 0 (by omega)
  have key' : misI U T (min U.length T.length) 0 = misI T U (min T.length U.length) 0 := by rw [Nat.min_comm]; exact key.symm
  unfold cmpV at hA hB
  rw [key'] at hB
  by_cases p : misI T U (min T.length U.length) 0 < 0
  · rw [if_pos p] at hA hB
    omega
  · rw [if_neg p] at hA hB
    omega
end ORD
