/-! JDK: maps, 12: a table of twice the length; how a list is split *-/
section RSL
variable {h g : am_H} {v : vT} {r m t1 t2 : Nat} {Q : am_O → am_H → Prop}
theorem bIx_mod (y : Int32) : bIx 16 y = y.toBitVec.toNat % 16 ∧ bIx 32 y = y.toBitVec.toNat % 32 ∧ bIx 64 y = y.toBitVec.toNat % 64 := by
  have key : ∀ c : Nat, c < 64 → (iI c &&& y).toNatClampNeg = c &&& y.toBitVec.toNat := by
    intro c hc
    have e2 : (iI c).toBitVec.toNat = c := by
      rw [← iI_nI]
      show (BitVec.ofNat 32 c).toNat = c
      rw [BitVec.toNat_ofNat]
      omega
    have e3 : (iI c &&& y).toBitVec.toNat = c &&& y.toBitVec.toNat := by
      show ((iI c).toBitVec &&& y.toBitVec).toNat = _
      rw [BitVec.toNat_and, e2]
    have le : c &&& y.toBitVec.toNat ≤ c := Nat.and_le_left
    have k1 : (iI c &&& y).toInt = ((iI c &&& y).toBitVec.toNat : Int) := by
      show (iI c &&& y).toBitVec.toInt = _
      rw [BitVec.toInt_eq_toNat_cond, if_pos (by omega)]
    rw [Int32.toNatClampNeg, k1, Int.toNat_natCast, e3]
  have a1 := key 15 (by decide)
  have a2 := key 31 (by decide)
  have a3 := key 63 (by decide)
  refine ⟨?_, ?_, ?_⟩
  · show (iI ((15 : Nat) : Int) &&& y).toNatClampNeg = _
    rw [a1, Nat.and_comm, show (15 : Nat) = 2 ^ 4 - 1 from rfl, Nat.and_two_pow_sub_one_eq_mod]
  · show (iI ((31 : Nat) : Int) &&& y).toNatClampNeg = _
    rw [a2, Nat.and_comm, show (31 : Nat) = 2 ^ 5 - 1 from rfl, Nat.and_two_pow_sub_one_eq_mod]
  · show (iI ((63 : Nat) : Int) &&& y).toNatClampNeg = _
    rw [a3, Nat.and_comm, show (63 : Nat) = 2 ^ 6 - 1 from rfl, Nat.and_two_pow_sub_one_eq_mod]
theorem bIx_dbl {n : Nat} (hn : n = 16 ∨ n = 32) (y : Int32) : (y &&& iI n = 0 → bIx (2 * n) y = bIx n y) ∧ (y &&& iI n ≠ 0 → bIx (2 * n) y = bIx n y + n) := by
  have key : ∀ k, k < 6 → (y &&& iI ((2 ^ k : Nat) : Int) = 0 ↔ y.toBitVec.toNat / 2 ^ k % 2 = 0) := by
    intro k hk
    have p6 : 2 ^ k ≤ 2 ^ 5 := Nat.pow_le_pow_right (by decide) (by omega)
    have e2 : (iI ((2 ^ k : Nat) : Int)).toBitVec.toNat = 2 ^ k := by
      rw [← iI_nI]
      show (BitVec.ofNat 32 (2 ^ k)).toNat = _
      rw [BitVec.toNat_ofNat]
      exact Nat.mod_eq_of_lt (Nat.lt_of_le_of_lt p6 (by decide))
    have e3 : (y &&& iI ((2 ^ k : Nat) : Int)).toBitVec.toNat = y.toBitVec.toNat &&& 2 ^ k := by
      show (y.toBitVec &&& (iI ((2 ^ k : Nat) : Int)).toBitVec).toNat = _
      rw [BitVec.toNat_and, e2]
    have e4 : y &&& iI ((2 ^ k : Nat) : Int) = 0 ↔ y.toBitVec.toNat &&& 2 ^ k = 0 := by
      rw [← e3]
      constructor
      · intro z; rw [z]; rfl
      · intro z
        apply Int32.toBitVec.inj
        apply BitVec.eq_of_toNat_eq
        rw [z]
        rfl
    rw [e4]
    have tb : y.toBitVec.toNat.testBit k = decide (y.toBitVec.toNat / 2 ^ k % 2 = 1) := Nat.testBit_eq_decide_div_mod_eq
    constructor
    · intro z
      have w := congrArg (fun u => Nat.testBit u k) z
      simp only [Nat.testBit_and, Nat.zero_testBit, Nat.testBit_two_pow, decide_true, Bool.and_true] at w
      rw [tb] at w
      have := of_decide_eq_false w
      omega
    · intro z
      apply Nat.eq_of_testBit_eq
      intro i
      rw [Nat.testBit_and, Nat.zero_testBit, Nat.testBit_two_pow]
      by_cases q : k = i
      · subst q
        rw [tb, decide_eq_false (by omega)]
        rfl
      · rw [decide_eq_false q, Bool.and_false]
  have B := bIx_mod y
  rcases hn with rfl | rfl
  · have := key 4 (by decide)
    have k4 : y &&& iI ((16 : Nat) : Int) = 0 ↔ y.toBitVec.toNat / 16 % 2 = 0 := this
    show (_ → bIx 32 y = bIx 16 y) ∧ (_ → bIx 32 y = bIx 16 y + 16)
    rw [B.1, B.2.1]
    constructor
    · intro z; have := k4.mp z; omega
    · intro z
      have : ¬ y.toBitVec.toNat / 16 % 2 = 0 := fun w => z (k4.mpr w)
      omega
  · have := key 5 (by decide)
    have k5 : y &&& iI ((32 : Nat) : Int) = 0 ↔ y.toBitVec.toNat / 32 % 2 = 0 := this
    show (_ → bIx 64 y = bIx 32 y) ∧ (_ → bIx 64 y = bIx 32 y + 32)
    rw [B.2.1, B.2.2]
    constructor
    · intro z; have := k5.mp z; omega
    · intro z
      have : ¬ y.toBitVec.toNat / 32 % 2 = 0 := fun w => z (k5.mpr w)
      omega
/-- a list of nodes that is being built, the last one first -/
def rpch (g : am_H) : List Nat → Prop
  | [] => True
  | [_] => True
  | x :: y :: l => hR g y 3 = some x ∧ rpch g (y :: l)
def lastO : List Nat → Option Nat
  | [] => none
  | [x] => some x
  | _ :: y :: l => lastO (y :: l)
theorem rpch_l {g g' : am_H} : ∀ {l : List Nat}, (∀ x, x ∈ l.tail → hR g' x 3 = hR g x 3) → rpch g l → rpch g' l := by
  intro l
  induction l with
  | nil => exact fun _ _ => trivial
  | cons x l ih =>
    cases l with
    | nil => exact fun _ _ => trivial
    | cons y l =>
      intro e c
      exact ⟨by rw [e y (List.mem_cons_self ..)]; exact c.1, ih (fun w hw => e w (List.mem_cons_of_mem _ hw)) c.2⟩
theorem rpch_chn {g : am_H} : ∀ (l : List Nat) (z : Nat) (B : List Nat), rpch g (z :: l) → chn g (hR g z 3) B → chn g (lastO (z :: l)) ((z :: l).reverse ++ B) := by
  intro l
  induction l with
  | nil =>
    intro z B _ c
    exact ⟨rfl, c⟩
  | cons y l ih =>
    intro z B p c
    have := ih y (z :: B) p.2 ⟨p.1, c⟩
    rw [lastO, List.reverse_cons, List.append_assoc]
    exact this
/-- the loop that splits a list -/
theorem rs_split {n j : Nat} {l0 l1 l3 l4 l5 l6 l7 : Option am_V} (X : Nat → Prop)
    (K : ∀ (g' : am_H) (RA RB : List Nat) (l13 : Option am_V), g'.1 = g.1 → g'.2.1 = g.2.1 → (∀ b k, hI g' b k = hI g b k) → (∀ b k, hJ g' b k = hJ g b k) → (∀ b k, ¬ (X b ∧ k = 3) → hR g' b k = hR g b k) → rpch g' RA → rpch g' RB → RA.Nodup → RB.Nodup → (∀ x, x ∈ RA ↔ (X x ∧ hI g x 0 &&& iI n = 0)) → (∀ x, x ∈ RB ↔ (X x ∧ hI g x 0 &&& iI n ≠ 0)) →
      Rn r 206 309 [l0, l1, some (vI (iI n)), l3, l4, l5, l6, l7, some (vR none), some (vR (lastO RA)), some (vR RA.head?), some (vR (lastO RB)), some (vR RB.head?), l13] [] g' Q) :
    ∀ (rs : List Nat) (x : Nat) (g' : am_H) (RA RB : List Nat) (l13 : Option am_V), g'.1 = g.1 → g'.2.1 = g.2.1 → (∀ b k, hI g' b k = hI g b k) → (∀ b k, hJ g' b k = hJ g b k) → (∀ b k, ¬ (X b ∧ k = 3) → hR g' b k = hR g b k) → rpch g' RA → rpch g' RB → chn g' (some x) (x :: rs) → (x :: rs ++ (RA ++ RB)).Nodup → (∀ y, y ∈ x :: rs → X y ∧ hK g y = 12) → (∀ y, y ∈ RA → X y ∧ hK g y = 12 ∧ hI g y 0 &&& iI n = 0) → (∀ y, y ∈ RB → X y ∧ hK g y = 12 ∧ hI g y 0 &&& iI n ≠ 0) → (∀ y, X y → y ∈ x :: rs ∨ y ∈ RA ∨ y ∈ RB) →
      Rn r 206 235 [l0, l1, some (vI (iI n)), l3, l4, l5, l6, l7, some (vR (some x)), some (vR (lastO RA)), some (vR RA.head?), some (vR (lastO RB)), some (vR RB.head?), l13] [] g' Q := by
  intro rs
  induction rs with
  | nil =>
    intro x g' RA RB l13 e1 e2 e3 e4 e5 pa pb ch nod mx ma mb cov
    have kx : hK g' x = 12 := by
      have : hK g' x = hK g x := by unfold hK; rw [e1, e2]
      rw [this]
      exact (mx x (List.mem_cons_self ..)).2
    have xX := (mx x (List.mem_cons_self ..)).1
    have nx : hR g' x 3 = none := ch.2
    have nodA := List.nodup_append.mp (List.nodup_append.mp nod).2.1
    have xA : x ∉ RA ++ RB := (List.nodup_cons.mp nod).1
    have xRA : x ∉ RA := fun w => xA (List.mem_append_left _ w)
    have xRB : x ∉ RB := fun w => xA (List.mem_append_right _ w)
    rw [sJ7_resize_235, sJ7_resize_237 (by omega) (by omega), nx, sJ7_resize_240, sJ7_resize_242, sJ7_resize_244 (by omega) (by omega), e3, sJ7_resize_247, sJ7_resize_248, sJ7_resize_249]
    by_cases p : hI g x 0 &&& iI n = 0
    · rw [if_neg (fun w => w p), sJ7_resize_252, sJ7_resize_254]
      cases RA with
      | nil =>
        rw [if_neg (fun w => w rfl), sJ7_resize_257, sJ7_resize_259, sJ7_resize_261, sJ7_resize_271, sJ7_resize_273, sJ7_resize_275, sJ7_resize_301, sJ7_resize_303, sJ7_resize_304, sJ7_resize_306, if_neg (fun w => w rfl)]
        refine K g' [x] RB _ e1 e2 e3 e4 e5 trivial pb (by simp) nodA.2.1 (fun y => ?_) (fun y => ?_)
        · constructor
          · intro w; rw [List.mem_singleton.mp w]; exact ⟨xX, p⟩
          · rintro ⟨w1, w2⟩
            rcases cov y w1 with w | w | w
            · exact w
            · cases w
            · exact absurd w2 (mb y w).2.2
        · constructor
          · intro w; exact ⟨(mb y w).1, (mb y w).2.2⟩
          · rintro ⟨w1, w2⟩
            rcases cov y w1 with w | w | w
            · rw [List.mem_singleton.mp w] at w2; exact absurd p w2
            · cases w
            · exact w
      | cons z l =>
        have zx : z ≠ x := fun w => xRA (by rw [← w]; exact List.mem_cons_self ..)
        have kz : hK g' z = 12 := by
          have : hK g' z = hK g z := by unfold hK; rw [e1, e2]
          rw [this]
          exact (ma z (List.mem_cons_self ..)).2.1
        have zX := (ma z (List.mem_cons_self ..)).1
        rw [if_pos (by simp), sJ7_resize_264, sJ7_resize_266, List.head?_cons, sJ7_resize_268 (by omega) (by omega), sJ7_resize_271, sJ7_resize_273, sJ7_resize_275, sJ7_resize_301, sJ7_resize_303, sJ7_resize_304, sJ7_resize_306, if_neg (fun w => w rfl)]
        have nz : z ∉ l := (List.nodup_cons.mp nodA.1).1
        refine K (putR g' z 3 (some x)) (x :: z :: l) RB _ e1 e2 e3 e4 (fun b k q => ?_) ⟨by rw [hR_putR, if_pos ⟨rfl, rfl⟩], rpch_l (fun w hw => by rw [hR_putR, if_neg (am_ne (fun e => nz (by rw [← e]; exact hw)))]) pa⟩ (rpch_l (fun w hw => by rw [hR_putR, if_neg (am_ne (fun e => (nodA.2.2 z (List.mem_cons_self ..) w (List.mem_of_mem_tail hw)) e.symm))]) pb) (List.nodup_cons.mpr ⟨xRA, nodA.1⟩) nodA.2.1 (fun y => ?_) (fun y => ?_)
        · rw [hR_putR, if_neg (fun w => q ⟨by rw [w.1]; exact zX, w.2⟩)]; exact e5 b k q
        · constructor
          · intro w
            rcases List.mem_cons.mp w with w | w
            · rw [w]; exact ⟨xX, p⟩
            · exact ⟨(ma y w).1, (ma y w).2.2⟩
          · rintro ⟨w1, w2⟩
            rcases cov y w1 with w | w | w
            · rw [List.mem_singleton.mp w]; exact List.mem_cons_self ..
            · exact List.mem_cons_of_mem _ w
            · exact absurd w2 (mb y w).2.2
        · constructor
          · intro w; exact ⟨(mb y w).1, (mb y w).2.2⟩
          · rintro ⟨w1, w2⟩
            rcases cov y w1 with w | w | w
            · rw [List.mem_singleton.mp w] at w2; exact absurd p w2
            · exact absurd (ma y w).2.2 w2
            · exact w
    · rw [if_pos p, sJ7_resize_278, sJ7_resize_280]
      cases RB with
      | nil =>
        rw [if_neg (fun w => w rfl), sJ7_resize_283, sJ7_resize_285, sJ7_resize_287, sJ7_resize_297, sJ7_resize_299, sJ7_resize_301, sJ7_resize_303, sJ7_resize_304, sJ7_resize_306, if_neg (fun w => w rfl)]
        refine K g' RA [x] _ e1 e2 e3 e4 e5 pa trivial nodA.1 (by simp) (fun y => ?_) (fun y => ?_)
        · constructor
          · intro w; exact ⟨(ma y w).1, (ma y w).2.2⟩
          · rintro ⟨w1, w2⟩
            rcases cov y w1 with w | w | w
            · rw [List.mem_singleton.mp w] at w2; exact absurd w2 p
            · exact w
            · cases w
        · constructor
          · intro w; rw [List.mem_singleton.mp w]; exact ⟨xX, p⟩
          · rintro ⟨w1, w2⟩
            rcases cov y w1 with w | w | w
            · exact w
            · exact absurd (ma y w).2.2 w2
            · cases w
      | cons z l =>
        have zx : z ≠ x := fun w => xRB (by rw [← w]; exact List.mem_cons_self ..)
        have kz : hK g' z = 12 := by
          have : hK g' z = hK g z := by unfold hK; rw [e1, e2]
          rw [this]
          exact (mb z (List.mem_cons_self ..)).2.1
        have zX := (mb z (List.mem_cons_self ..)).1
        rw [if_pos (by simp), sJ7_resize_290, sJ7_resize_292, List.head?_cons, sJ7_resize_294 (by omega) (by omega), sJ7_resize_297, sJ7_resize_299, sJ7_resize_301, sJ7_resize_303, sJ7_resize_304, sJ7_resize_306, if_neg (fun w => w rfl)]
        have nz : z ∉ l := (List.nodup_cons.mp nodA.2.1).1
        refine K (putR g' z 3 (some x)) RA (x :: z :: l) _ e1 e2 e3 e4 (fun b k q => ?_) (rpch_l (fun w hw => by rw [hR_putR, if_neg (am_ne (fun e => (nodA.2.2 w (List.mem_of_mem_tail hw) z (List.mem_cons_self ..)) e))]) pa) ⟨by rw [hR_putR, if_pos ⟨rfl, rfl⟩], rpch_l (fun w hw => by rw [hR_putR, if_neg (am_ne (fun e => nz (by rw [← e]; exact hw)))]) pb⟩ nodA.1 (List.nodup_cons.mpr ⟨xRB, nodA.2.1⟩) (fun y => ?_) (fun y => ?_)
        · rw [hR_putR, if_neg (fun w => q ⟨by rw [w.1]; exact zX, w.2⟩)]; exact e5 b k q
        · constructor
          · intro w; exact ⟨(ma y w).1, (ma y w).2.2⟩
          · rintro ⟨w1, w2⟩
            rcases cov y w1 with w | w | w
            · rw [List.mem_singleton.mp w] at w2; exact absurd w2 p
            · exact w
            · exact absurd w2 (mb y w).2.2
        · constructor
          · intro w
            rcases List.mem_cons.mp w with w | w
            · rw [w]; exact ⟨xX, p⟩
            · exact ⟨(mb y w).1, (mb y w).2.2⟩
          · rintro ⟨w1, w2⟩
            rcases cov y w1 with w | w | w
            · rw [List.mem_singleton.mp w]; exact List.mem_cons_self ..
            · exact absurd (ma y w).2.2 w2
            · exact List.mem_cons_of_mem _ w
  | cons x2 l ih =>
    intro x g' RA RB l13 e1 e2 e3 e4 e5 pa pb ch nod mx ma mb cov
    have kx : hK g' x = 12 := by
      have : hK g' x = hK g x := by unfold hK; rw [e1, e2]
      rw [this]
      exact (mx x (List.mem_cons_self ..)).2
    have xX := (mx x (List.mem_cons_self ..)).1
    have nx : hR g' x 3 = some x2 := ch.2.1
    have nodS := List.nodup_append.mp nod
    have nodA := List.nodup_append.mp nodS.2.1
    have xrest : x ∉ (x2 :: l) ++ (RA ++ RB) := (List.nodup_cons.mp nod).1
    have xA : x ∉ RA ++ RB := fun w => xrest (List.mem_append_right _ w)
    have xRA : x ∉ RA := fun w => xA (List.mem_append_left _ w)
    have xRB : x ∉ RB := fun w => xA (List.mem_append_right _ w)
    have nod2 : (x2 :: l ++ (RA ++ RB)).Nodup := (List.nodup_cons.mp nod).2
    have mx2 : ∀ y, y ∈ x2 :: l → X y ∧ hK g y = 12 := fun y hy => mx y (List.mem_cons_of_mem _ hy)
    have sep : ∀ y, y ∈ x2 :: l → ∀ w, w ∈ RA ++ RB → y ≠ w := fun y hy w hw => nodS.2.2 y (List.mem_cons_of_mem _ hy) w hw
    rw [sJ7_resize_235, sJ7_resize_237 (by omega) (by omega), nx, sJ7_resize_240, sJ7_resize_242, sJ7_resize_244 (by omega) (by omega), e3, sJ7_resize_247, sJ7_resize_248, sJ7_resize_249]
    have perm1 : (x2 :: l ++ ((x :: RA) ++ RB)).Nodup := by
      refine List.nodup_append.mpr ⟨(List.nodup_append.mp nod2).1, List.nodup_cons.mpr ⟨xA, nodS.2.1⟩, fun y hy w hw => ?_⟩
      rcases List.mem_cons.mp hw with hw | hw
      · intro e
        rw [e, hw] at hy
        exact xrest (List.mem_append_left _ hy)
      · exact sep y hy w hw
    have perm2 : (x2 :: l ++ (RA ++ (x :: RB))).Nodup := by
      refine List.nodup_append.mpr ⟨(List.nodup_append.mp nod2).1, List.nodup_append.mpr ⟨nodA.1, List.nodup_cons.mpr ⟨xRB, nodA.2.1⟩, fun y hy w hw => ?_⟩, fun y hy w hw => ?_⟩
      · rcases List.mem_cons.mp hw with hw | hw
        · intro e; rw [e, hw] at hy; exact xRA hy
        · exact nodA.2.2 y hy w hw
      · rcases List.mem_append.mp hw with hw | hw
        · exact sep y hy w (List.mem_append_left _ hw)
        · rcases List.mem_cons.mp hw with hw | hw
          · intro e
            rw [e, hw] at hy
            exact xrest (List.mem_append_left _ hy)
          · exact sep y hy w (List.mem_append_right _ hw)
    by_cases p : hI g x 0 &&& iI n = 0
    · have ma' : ∀ y, y ∈ x :: RA → X y ∧ hK g y = 12 ∧ hI g y 0 &&& iI n = 0 := fun y hy => by
        rcases List.mem_cons.mp hy with w | w
        · rw [w]; exact ⟨xX, (mx x (List.mem_cons_self ..)).2, p⟩
        · exact ma y w
      have cov' : ∀ y, X y → y ∈ x2 :: l ∨ y ∈ x :: RA ∨ y ∈ RB := fun y hy => by
        rcases cov y hy with w | w | w
        · rcases List.mem_cons.mp w with w | w
          · exact Or.inr (Or.inl (by rw [w]; exact List.mem_cons_self ..))
          · exact Or.inl w
        · exact Or.inr (Or.inl (List.mem_cons_of_mem _ w))
        · exact Or.inr (Or.inr w)
      rw [if_neg (fun w => w p), sJ7_resize_252, sJ7_resize_254]
      cases RA with
      | nil =>
        rw [if_neg (fun w => w rfl), sJ7_resize_257, sJ7_resize_259, sJ7_resize_261, sJ7_resize_271, sJ7_resize_273, sJ7_resize_275, sJ7_resize_301, sJ7_resize_303, sJ7_resize_304, sJ7_resize_306, if_pos (by simp)]
        exact ih x2 g' [x] RB _ e1 e2 e3 e4 e5 trivial pb ⟨rfl, ch.2.2⟩ perm1 mx2 ma' mb cov'
      | cons z l2 =>
        have kz : hK g' z = 12 := by
          have : hK g' z = hK g z := by unfold hK; rw [e1, e2]
          rw [this]
          exact (ma z (List.mem_cons_self ..)).2.1
        have zX := (ma z (List.mem_cons_self ..)).1
        rw [if_pos (by simp), sJ7_resize_264, sJ7_resize_266, List.head?_cons, sJ7_resize_268 (by omega) (by omega), sJ7_resize_271, sJ7_resize_273, sJ7_resize_275, sJ7_resize_301, sJ7_resize_303, sJ7_resize_304, sJ7_resize_306, if_pos (by simp)]
        have nz : z ∉ l2 := (List.nodup_cons.mp nodA.1).1
        refine ih x2 (putR g' z 3 (some x)) (x :: z :: l2) RB _ e1 e2 e3 e4 (fun b k q => ?_) ⟨by rw [hR_putR, if_pos ⟨rfl, rfl⟩], rpch_l (fun w hw => by rw [hR_putR, if_neg (am_ne (fun e => nz (by rw [← e]; exact hw)))]) pa⟩ (rpch_l (fun w hw => by rw [hR_putR, if_neg (am_ne (fun e => (nodA.2.2 z (List.mem_cons_self ..) w (List.mem_of_mem_tail hw)) e.symm))]) pb) ⟨rfl, by rw [hR_putR, if_neg (am_ne (sep x2 (List.mem_cons_self ..) z (List.mem_append_left _ (List.mem_cons_self ..))))]; exact chn_l (fun w hw => by rw [hR_putR, if_neg (am_ne (sep w (List.mem_cons_of_mem _ hw) z (List.mem_append_left _ (List.mem_cons_self ..))))]) ch.2.2⟩ perm1 mx2 ma' mb cov'
        rw [hR_putR, if_neg (fun w => q ⟨by rw [w.1]; exact zX, w.2⟩)]
        exact e5 b k q
    · have mb' : ∀ y, y ∈ x :: RB → X y ∧ hK g y = 12 ∧ hI g y 0 &&& iI n ≠ 0 := fun y hy => by
        rcases List.mem_cons.mp hy with w | w
        · rw [w]; exact ⟨xX, (mx x (List.mem_cons_self ..)).2, p⟩
        · exact mb y w
      have cov' : ∀ y, X y → y ∈ x2 :: l ∨ y ∈ RA ∨ y ∈ x :: RB := fun y hy => by
        rcases cov y hy with w | w | w
        · rcases List.mem_cons.mp w with w | w
          · exact Or.inr (Or.inr (by rw [w]; exact List.mem_cons_self ..))
          · exact Or.inl w
        · exact Or.inr (Or.inl w)
        · exact Or.inr (Or.inr (List.mem_cons_of_mem _ w))
      rw [if_pos p, sJ7_resize_278, sJ7_resize_280]
      cases RB with
      | nil =>
        rw [if_neg (fun w => w rfl), sJ7_resize_283, sJ7_resize_285, sJ7_resize_287, sJ7_resize_297, sJ7_resize_299, sJ7_resize_301, sJ7_resize_303, sJ7_resize_304, sJ7_resize_306, if_pos (by simp)]
        exact ih x2 g' RA [x] _ e1 e2 e3 e4 e5 pa trivial ⟨rfl, ch.2.2⟩ perm2 mx2 ma mb' cov'
      | cons z l2 =>
        have kz : hK g' z = 12 := by
          have : hK g' z = hK g z := by unfold hK; rw [e1, e2]
          rw [this]
          exact (mb z (List.mem_cons_self ..)).2.1
        have zX := (mb z (List.mem_cons_self ..)).1
        rw [if_pos (by simp), sJ7_resize_290, sJ7_resize_292, List.head?_cons, sJ7_resize_294 (by omega) (by omega), sJ7_resize_297, sJ7_resize_299, sJ7_resize_301, sJ7_resize_303, sJ7_resize_304, sJ7_resize_306, if_pos (by simp)]
        have nz : z ∉ l2 := (List.nodup_cons.mp nodA.2.1).1
        refine ih x2 (putR g' z 3 (some x)) RA (x :: z :: l2) _ e1 e2 e3 e4 (fun b k q => ?_) (rpch_l (fun w hw => by rw [hR_putR, if_neg (am_ne (fun e => (nodA.2.2 w (List.mem_of_mem_tail hw) z (List.mem_cons_self ..)) e))]) pa) ⟨by rw [hR_putR, if_pos ⟨rfl, rfl⟩], rpch_l (fun w hw => by rw [hR_putR, if_neg (am_ne (fun e => nz (by rw [← e]; exact hw)))]) pb⟩ ⟨rfl, by rw [hR_putR, if_neg (am_ne (sep x2 (List.mem_cons_self ..) z (List.mem_append_right _ (List.mem_cons_self ..))))]; exact chn_l (fun w hw => by rw [hR_putR, if_neg (am_ne (sep w (List.mem_cons_of_mem _ hw) z (List.mem_append_right _ (List.mem_cons_self ..))))]) ch.2.2⟩ perm2 mx2 ma mb' cov'
        rw [hR_putR, if_neg (fun w => q ⟨by rw [w.1]; exact zX, w.2⟩)]
        exact e5 b k q
end RSL
