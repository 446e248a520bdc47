/-! PURE: the rows while a text is read -/
def PU (w : Int) (S U : tSt) : Prop := (0 ≤ U 3 w ∧ U 3 w ≤ 16) ∧ (0 ≤ U 9 w ∧ U 9 w ≤ 12) ∧ (0 ≤ U 19 w ∧ U 19 w ≤ 120) ∧ (0 ≤ U 40 w ∧ 5 * (U 40 w - U 9 w - U 19 w) ≤ S 49 0) ∧ (∀ j, 0 ≤ j → j < S 55 0 → 1024 * w ≤ S 56 j ∧ S 56 j < 1024 * w + U 40 w) ∧
  (∀ b, 1024 * w ≤ b → b < 1024 * w + U 40 w → (U 46 b = -1 ∨ (120 * w ≤ U 46 b ∧ U 46 b < 120 * w + U 19 w)) ∧ (0 ≤ U 41 b ∧ U 41 b ≤ 9) ∧ (U 41 b ≠ 0 → 120 * w ≤ U 42 b ∧ U 42 b < 120 * w + U 19 w)) ∧
  ∀ s, 120 * w ≤ s → s < 120 * w + U 19 w → (0 ≤ U 33 s ∧ U 33 s ≤ 4) ∧ (0 ≤ U 30 s ∧ U 30 s ≤ 4)
def PI (w : Int) (S U : tSt) : Prop := SI S ∧ TK S ∧ S 2 0 = w ∧ PU w S U
section PPI
variable {w : Int} {S S' U U' : tSt}
theorem PU_tks (h : PU w S U) (k : Tks S S') : PU w S' U := by
  obtain ⟨k1, k2, k3, k4, k5⟩ := k
  have e5 := k4 55 (by decide) (by decide) (by decide) (by decide) (by decide) (by decide) (by decide)
  have e6 := k4 56 (by decide) (by decide) (by decide) (by decide) (by decide) (by decide) (by decide)
  unfold PU at *
  rw [e5, e6]
  obtain ⟨u1, u2, u3, u4, u5, u6, u7⟩ := h
  exact ⟨u1, u2, u3, ⟨u4.1, by omega⟩, u5, u6, u7⟩
theorem PI_tks (h : PI w S U) (k : Tks S S') : PI w S' U := ⟨k.1, k.2.1, by rw [k.2.2.2.1 2 (by decide) (by decide) (by decide) (by decide) (by decide) (by decide) (by decide)]; exact h.2.2.1, PU_tks h.2.2.2 k⟩
theorem PU_u (h : PU w S U) (e1 : U' 3 = U 3) (e2 : U' 9 = U 9) (e3 : U' 19 = U 19) (e4 : U' 40 = U 40) (e5 : U' 46 = U 46) (e6 : U' 41 = U 41) (e7 : U' 42 = U 42) (e8 : U' 33 = U 33) (e9 : U' 30 = U 30) : PU w S U' := by
  unfold PU
  rw [e1, e2, e3, e4, e5, e6, e7, e8, e9]
  exact h
theorem PI_u (h : PI w S U) (e1 : U' 3 = U 3) (e2 : U' 9 = U 9) (e3 : U' 19 = U 19) (e4 : U' 40 = U 40) (e5 : U' 46 = U 46) (e6 : U' 41 = U 41) (e7 : U' 42 = U 42) (e8 : U' 33 = U 33) (e9 : U' 30 = U 30) : PI w S U' := ⟨h.1, h.2.1, h.2.2.1, PU_u h.2.2.2 e1 e2 e3 e4 e5 e6 e7 e8 e9⟩
/-- fields that the invariant does not look at -/
def pF (f : Nat) : Bool := f != 3 && f != 9 && f != 19 && f != 40 && f != 46 && f != 41 && f != 42 && f != 33 && f != 30
theorem PI_up {f : Nat} {j x : Int} (h : PI w S U) (hf : pF f = true) : PI w S (up U f j x) := by
  unfold pF at hf
  simp only [Bool.and_eq_true, bne_iff_ne, ne_eq] at hf
  obtain ⟨⟨⟨⟨⟨⟨⟨⟨f1, f2⟩, f3⟩, f4⟩, f5⟩, f6⟩, f7⟩, f8⟩, f9⟩ := hf
  exact PI_u h (up_n (fun e => f1 e.symm)) (up_n (fun e => f2 e.symm)) (up_n (fun e => f3 e.symm)) (up_n (fun e => f4 e.symm)) (up_n (fun e => f5 e.symm)) (up_n (fun e => f6 e.symm)) (up_n (fun e => f7 e.symm)) (up_n (fun e => f8 e.symm)) (up_n (fun e => f9 e.symm))
/-- a block is opened -/
theorem PI_opn {what own num s : Int} {f : Nat} (h : PI w S U) (hf : pF f = true) (hs : 5 * (U 40 w + 1 - U 9 w - U 19 w) ≤ S 49 0 + 1) (hw : 0 ≤ what ∧ what ≤ 9) (ho : what ≠ 0 → 120 * w ≤ own ∧ own < 120 * w + U 19 w) : PI w (tOpn w what own num f s S U).1 (tOpn w what own num f s S U).2 := by
  unfold tOpn
  show PI w (tOS w S U) (up (tOU w what own num S U) f s (tOR w S U))
  refine PI_up ?_ hf
  unfold tOS tOU
  by_cases q : tIsO S = true
  · rw [if_pos q, if_pos q]
    unfold tIsO at q
    simp only [Bool.and_eq_true, decide_eq_true_eq] at q
    obtain ⟨h1, h2, h3, h4⟩ := h
    obtain ⟨u1, u2, u3, u4, u5, u6, u7⟩ := h4
    have t1 := SI_open (b := tOB w U) h1 q.2
    have t2 : TK (up (up S 56 (S 55 0) (tOB w U)) 55 0 (S 55 0 + 1)) := by unfold TK; simp only [up_eq, true_and, false_and, and_true, and_false, and_self, if_true, if_false, eq_self, Nat.reduceEqDiff, reduceIte]; exact h2
    have t3 := Tks_adv t1 t2
    have v := tAdv_val t1.1
    have n1 : S 49 0 < S 47 0 := h2.2.2.1 (by omega)
    simp only [up_eq, true_and, false_and, and_true, and_false, and_self, if_true, if_false, eq_self, Nat.reduceEqDiff, reduceIte] at v
    refine ⟨t3.1, t3.2.1, ?_, ?_⟩
    · rw [t3.2.2.2.1 2 (by decide) (by decide) (by decide) (by decide) (by decide) (by decide) (by decide)]
      simp only [up_eq, true_and, false_and, and_true, and_false, and_self, if_true, if_false, eq_self, Nat.reduceEqDiff, reduceIte]
      exact h3
    · have e5 := t3.2.2.2.1 55 (by decide) (by decide) (by decide) (by decide) (by decide) (by decide) (by decide)
      have e6 := t3.2.2.2.1 56 (by decide) (by decide) (by decide) (by decide) (by decide) (by decide) (by decide)
      have eb : tOB w U = 1024 * w + U 40 w := by unfold tOB; omega
      unfold PU
      rw [e5, e6, eb]
      simp only [up_eq, true_and, false_and, and_true, and_false, and_self, if_true, if_false, eq_self, Nat.reduceEqDiff, reduceIte]
      rw [eb] at v
      refine ⟨u1, u2, u3, ⟨by omega, by omega⟩, ?_, ?_, u7⟩
      · intro j j1 j2
        by_cases e : j = S 55 0
        · rw [if_pos e]; omega
        · rw [if_neg e]
          have := u5 j j1 (by omega)
          omega
      · intro b b1 b2
        by_cases e : b = 1024 * w + U 40 w
        · simp only [e, if_true]
          exact ⟨Or.inl trivial, hw, ho⟩
        · simp only [e, if_false]
          exact u6 b b1 (by omega)
  · rw [if_neg q, if_neg q]
    exact PI_tks h (Tks_fail h.1 h.2.1)
theorem PI_adv (h : PI w S U) : PI w (tAdv S) U := PI_tks h (Tks_adv h.1 h.2.1)
theorem PI_fail (h : PI w S U) : PI w (tFail S) U := PI_tks h (Tks_fail h.1 h.2.1)
theorem PI_name (h : PI w S U) : PI w (tName S) U := PI_tks h (Tks_name h.1 h.2.1)
theorem PI_take {s : Int} (h : PI w S U) : PI w (tTake S s) U := PI_tks h (Tks_take h.1 h.2.1)
theorem PI_kind (h : PI w S U) : PI w (tKind w S U).1 (tKind w S U).2 := by
  have a1 := PI_adv h
  have a2 := PI_name a1
  have a3 := PI_adv a2
  have a4 := PI_name a3
  unfold tKind
  split
  · exact PI_fail h
  · rename_i q0
    split
    · unfold tKind2
      split
      · split
        · unfold tKind3
          split
          · obtain ⟨h1, h2, h3, h4⟩ := PI_adv a4
            refine ⟨h1, h2, h3, ?_⟩
            obtain ⟨u1, u2, u3, u4, u5, u6, u7⟩ := h4
            unfold PU
            simp only [up_eq, true_and, false_and, and_true, and_false, and_self, if_true, if_false, eq_self, Nat.reduceEqDiff, reduceIte]
            exact ⟨by omega, u2, u3, u4, u5, u6, u7⟩
          · exact PI_up (PI_up (PI_up (PI_up (PI_up (PI_fail a4) rfl) rfl) rfl) rfl) rfl
        · exact PI_up (PI_up (PI_fail a3) rfl) rfl
      · exact PI_up (PI_up (PI_fail a2) rfl) rfl
    · exact PI_fail a1
theorem PI_thr {x : Int} (h : PI w S U) (d : Nat) : PI w (tThr x d S U).2.1 (tThr x d S U).2.2 := by
  have k := Tks_thr (x := x) d S U h.1 h.2.1
  have e : ∀ g, g ≠ 15 → g ≠ 16 → g ≠ 17 → (tThr x d S U).2.2 g = U g := fun g q1 q2 q3 => tThr_u g q1 q2 q3 d S U
  exact PI_u (PI_tks h k) (e _ (by decide) (by decide) (by decide)) (e _ (by decide) (by decide) (by decide)) (e _ (by decide) (by decide) (by decide)) (e _ (by decide) (by decide) (by decide)) (e _ (by decide) (by decide) (by decide)) (e _ (by decide) (by decide) (by decide)) (e _ (by decide) (by decide) (by decide)) (e _ (by decide) (by decide) (by decide)) (e _ (by decide) (by decide) (by decide))
theorem PI_way4 {x : Int} (h : PI w S U) (hm : U 9 w < 12) : PI w (tWay4 w x S U).1 (tWay4 w x S U).2 := by
  have key : ∀ S, PI w S U → PI w S (up U 9 w (U 9 w + 1)) := by
    intro S h
    obtain ⟨h1, h2, h3, u1, u2, u3, u4, u5, u6, u7⟩ := h
    refine ⟨h1, h2, h3, ?_⟩
    unfold PU
    simp only [up_eq, true_and, false_and, and_true, and_false, and_self, if_true, if_false, eq_self, Nat.reduceEqDiff, reduceIte]
    exact ⟨u1, by omega, u3, ⟨u4.1, by omega⟩, u5, u6, u7⟩
  unfold tWay4
  split
  · exact key _ (PI_adv h)
  · refine PI_opn (key _ h) rfl ?_ (by omega) (fun q => absurd rfl q)
    simp only [up_eq, true_and, false_and, and_true, and_false, and_self, if_true, if_false, eq_self, Nat.reduceEqDiff, reduceIte]
    have := h.2.2.2.2.2.2.1
    omega
theorem PI_way (h : PI w S U) : PI w (tWay w S U).1 (tWay w S U).2 := by
  have key3 : ∀ (x : Int) (S U : tSt), PI w S U → U 9 w < 12 → PI w (tWay3 w x S U).1 (tWay3 w x S U).2 := by
    intro x S U h hm
    unfold tWay3
    split
    · split
      · exact PI_way4 (PI_thr h 5) (by rw [tThr_u 9 (by decide) (by decide) (by decide)]; exact hm)
      · exact PI_thr h 5
    · exact PI_way4 h hm
  have key2 : ∀ (x : Int) (S U : tSt), PI w S U → U 9 w < 12 → PI w (tWay2 w x S U).1 (tWay2 w x S U).2 := by
    intro x S U h hm
    unfold tWay2
    split
    · exact key3 x _ _ (PI_up (PI_adv h) rfl) (by simp only [up_eq, true_and, false_and, and_true, and_false, and_self, if_true, if_false, eq_self, Nat.reduceEqDiff, reduceIte]; exact hm)
    · exact key3 x _ _ (PI_up h rfl) (by simp only [up_eq, true_and, false_and, and_true, and_false, and_self, if_true, if_false, eq_self, Nat.reduceEqDiff, reduceIte]; exact hm)
  have hm := h.2.2.2.2.1
  unfold tWay
  split
  · exact PI_fail h
  · rename_i q0
    split
    · unfold tWay1
      split
      · split
        · exact key2 _ _ _ (PI_up (PI_up (PI_up (PI_up (PI_up (PI_up (PI_up (PI_name (PI_adv (PI_name (PI_adv h)))) rfl) rfl) rfl) rfl) rfl) rfl) rfl) (by simp only [up_eq, true_and, false_and, and_true, and_false, and_self, if_true, if_false, eq_self, Nat.reduceEqDiff, reduceIte]; omega)
        · exact PI_up (PI_up (PI_up (PI_up (PI_up (PI_fail (PI_adv (PI_name (PI_adv h)))) rfl) rfl) rfl) rfl) rfl
      · exact key2 _ _ _ (PI_up (PI_up (PI_up (PI_up (PI_up (PI_name (PI_adv h)) rfl) rfl) rfl) rfl) rfl) (by simp only [up_eq, true_and, false_and, and_true, and_false, and_self, if_true, if_false, eq_self, Nat.reduceEqDiff, reduceIte]; omega)
    · exact PI_fail (PI_adv h)
end PPI
