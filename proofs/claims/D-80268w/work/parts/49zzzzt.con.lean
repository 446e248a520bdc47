/-! COMPONENT, 35: contracts of statements and blocks *-/
/-- from view to view while a text is read, n cells and s slots of room -/
def MX (R : Nat → Nat) (T : Nat → Nat) (v v' : vT) (n s : Int) : Prop := Fw (Xb (R 0) (R 2) T) v v' ∧ RM (R 9) v v' n s
/-- thrown at p -/
def WX (R : Nat → Nat) (T : Nat → Nat) (v v' : vT) (S : tSt) (k p : Int) : Prop := MX R T v v' (300 * (S 48 0 - S 47 0) + 60 * k) (2000 * (S 48 0 - S 47 0) + 800 * k) ∧ hI v'.1 (R 2) 6 = iI p ∧ vCp v' (R 9) ≤ 6000
/-- open blocks lie in one another -/
def CH (S U : tSt) : Prop := U 41 (S 56 0) = 0 ∧ ∀ i, 1 ≤ i → i < S 55 0 → U 22 (U 42 (S 56 i)) = S 56 (i - 1) ∧ U 41 (S 56 i) ≠ 0 ∧ (U 41 (S 56 i) = 4 → U 20 (U 42 (S 56 i)) = 5 ∨ U 20 (U 42 (S 56 i)) = 6)
/-- the invariant at the head of a block's loop -/
def HD (R : Nat → Nat) (A : Nat → Int → Nat) (T : Nat → Nat) (w p0 : Int) (v : vT) (S U : tSt) (o : Option Nat) : Prop :=
  GI R A T w (-1) p0 v S U ∧ (PI w S U ∧ PR w U ∧ QV U ∧ (0 ≤ w ∧ w ≤ 1)) ∧ (1 ≤ S 55 0 ∧ S 52 0 = -1) ∧ AR v A U (S 56 (S 55 0 - 1) + 2).toNat (S 56 (S 55 0 - 1)) o ∧ CH S U
/-- from head to head -/
def SX (R : Nat → Nat) (w c d : Int) (A : Nat → Int → Nat) (T : Nat → Nat) (v : vT) (S U : tSt) (A' : Nat → Int → Nat) (T' : Nat → Nat) (v' : vT) (S' U' : tSt) : Prop :=
  MX R T v v' (300 * (S' 47 0 - S 47 0) - c) (2000 * (S' 47 0 - S 47 0) - d) ∧ AE w U A A' T T' ∧ (∀ a, a < hN v.1 → T' a = T a) ∧ FU w U U' ∧ S 47 0 ≤ S' 47 0 ∧ S' 48 0 = S 48 0
/-- statements that are new in block b: one in b itself, the others further inside -/
def NWs (w : Int) (U U' : tSt) (b : Int) : Prop := U 19 w < U' 19 w ∧ U' 22 (w * 120 + U 19 w) = b ∧ ∀ k, As w U' k → ¬ As w U k → k ≠ w * 120 + U 19 w → w * 1024 + U 40 w ≤ U' 22 k
def STC (r : Nat) (R : Nat → Nat) (w p0 : Int) : Prop := ∀ (h : am_H) (v : vT) (A : Nat → Int → Nat) (T : Nat → Nat) (S U : tSt) (o : Option Nat) (Q : am_O → am_H → Prop), CR h v → HD R A T w p0 v S U o → S 51 0 ≠ 125 → 10 - S 55 0 ≤ r →
  (∀ h' v' A' T' S' U', CR h' v' → SX R w 20 300 A T v S U A' T' v' S' U' → HD R A' T' w p0 v' S' U' o → tGo w (S, U) (S', U') → S 49 0 < S' 49 0 → S' 55 0 = S 55 0 → (∀ i, i < S 55 0 → S' 56 i = S 56 i) → NWs w U U' (S 56 (S 55 0 - 1)) → Q (Sum.inl (some (vR (some (A' 2 (w * 120 + U 19 w)))))) h') →
  (∀ h' v' p, CR h' v' → WX R T v v' S (20 - 2 * S 55 0) p → doom w (S, U) p → Q (Sum.inr (R 2)) h') → Cl r 175 [vR (some (R 0)), vR o] h Q
/-- a block b begins: the tokens behind -/
def oS (S : tSt) (b : Int) : tSt := tAdv (up (up S 56 (S 55 0) b) 55 0 (S 55 0 + 1))
/-- a block ends: the tokens behind -/
def xS (S : tSt) : tSt := tAdv (up S 55 0 (S 55 0 - 1))
/-- what is known of rows U1 with a new block b of own, made out of U -/
def OP (w own b : Int) (S U U1 : tSt) : Prop := FX w own U U1 ∧ (U1 19 w = U 19 w ∧ U1 40 w = U 40 w + 1 ∧ U1 42 b = own ∧ U1 44 b = S 49 0) ∧ (U1 20 = U 20 ∧ U1 33 = U 33 ∧ U1 26 = U 26 ∧ U1 25 = U 25 ∧ U1 30 = U 30 ∧ U1 22 = U 22) ∧ mPar U1 w = mPar U w ∧ (PI w (oS S b) U1 ∧ PR w U1 ∧ QV U1)
def BLC (r : Nat) (R : Nat → Nat) (w p0 : Int) : Prop := ∀ (h : am_H) (v : vT) (A : Nat → Int → Nat) (T : Nat → Nat) (S U U1 : tSt) (own b : Int) (o : Option Nat) (Q : am_O → am_H → Prop), CR h v → GI R A T w own p0 v S U → (PI w S U ∧ PR w U ∧ QV U ∧ (0 ≤ w ∧ w ≤ 1)) → S 52 0 = -1 → b = w * 1024 + U 40 w → 9 - S 55 0 ≤ r → (own = -1 ∨ As w U own) →
  (tIsO S = true → OP w own b S U U1 ∧ AR v A U1 (b + 2).toNat b o ∧ CH (oS S b) U1) →
  (tIsO S = true → ∀ h' v' A' T' S3 U3, CR h' v' → MX R T v v' (300 * (xS S3 47 0 - S 47 0) - 250) (2000 * (xS S3 47 0 - S 47 0) - 1700) → AE w U A A' T T' → (∀ a, a < hN v.1 → T' a = T a) → FU w U1 U3 → S 47 0 ≤ xS S3 47 0 → xS S3 48 0 = S 48 0 → GI R A' T' w own p0 v' (xS S3) U3 → (PI w (xS S3) U3 ∧ PR w U3 ∧ QV U3) → tGo w (oS S b, U1) (S3, U3) → S3 51 0 = 125 → S3 52 0 = -1 → xS S3 51 0 ≠ -2 → S3 55 0 = S 55 0 + 1 → (∀ i, i < S 55 0 → S3 56 i = S 56 i) → S3 56 (S 55 0) = b → FB v' A' T' U3 w b → (∀ k, As w U3 k → ¬ As w U k → b ≤ U3 22 k) → Q (Sum.inl (some (vR (some (A' 3 b))))) h') →
  (∀ h' v' p, CR h' v' → WX R T v v' S (19 - 2 * S 55 0) p → (tIsO S = true → doom w (oS S b, U1) p) → (tIsO S ≠ true → p = S 49 0) → Q (Sum.inr (R 2)) h') → Cl r 134 [vR (some (R 0)), vR o] h Q
section CON
variable {R : Nat → Nat} {A A' A'' : Nat → Int → Nat} {T T' T'' : Nat → Nat} {w s b p p0 : Int} {v v' v'' : vT} {S S' S'' U U' U'' : tSt} {X : Nat → Nat → Prop} {n m n1 m1 : Int}
theorem AR_ae (ae : AE w U A A' T T') (p : PQ w U) (qv : QV U) : ∀ (d : Nat) (b : Int) (o : Option Nat), Ab w U b → AR v A U d b o → AR v A' U d b o := by
  intro d
  induction d with
  | zero => intro b o _ z; exact z
  | succ d ih =>
    intro b o hb x
    rw [AR] at x ⊢
    obtain ⟨b0, x⟩ := x
    refine ⟨b0, ?_⟩
    obtain ⟨p1, _, _, p4⟩ := p.2.1 b hb
    rcases p1 with ⟨q1, q2⟩ | ⟨q1, q2, q3⟩
    · rcases x with x | ⟨x1, x2, _⟩ | ⟨x1, x2, _⟩ | ⟨x1, x2, _⟩ | ⟨x1, x2, _⟩ | ⟨x1, x2, _⟩ | ⟨x1, x2, _⟩
      · exact Or.inl x
      all_goals exact absurd q2 x2
    · have m := fun o => ih (U 22 (U 42 b)) o (p.1 _ q2).1
      rw [(ae.1 _ q2).1]
      rcases x with x | ⟨x1, x2, x3⟩ | ⟨x1, x2, a, o', x3, x4, x5⟩ | ⟨x1, x2, a, o', x3, x4, x5⟩ | ⟨x1, x2, a, o', x3, x4, x5⟩ | ⟨x1, x2, a, a2, o', x3, x4, x5, x6, x7, x8⟩ | ⟨x1, x2, a, o', x3, x4, x5⟩
      · exact Or.inl x
      · exact Or.inr (Or.inl ⟨x1, x2, m _ x3⟩)
      · exact Or.inr (Or.inr (Or.inl ⟨x1, x2, a, o', x3, x4, m _ x5⟩))
      · exact Or.inr (Or.inr (Or.inr (Or.inl ⟨x1, x2, a, o', x3, x4, m _ x5⟩)))
      · exact Or.inr (Or.inr (Or.inr (Or.inr (Or.inl ⟨x1, x2, a, o', x3, x4, m _ x5⟩))))
      · have b33 := QV_b qv (f := 33) (c := 4) rfl rfl rfl (U 42 b)
        have p5 := p4 x1
        have e4 : (4 * U 42 b + U 43 b) / 4 = U 42 b := by omega
        have ec : A' 4 (4 * U 42 b + U 43 b) = A 4 (4 * U 42 b + U 43 b) := ae.2.2.1 _ (by rw [e4]; exact q2) (by rw [e4]; omega)
        refine Or.inr (Or.inr (Or.inr (Or.inr (Or.inr (Or.inl ⟨x1, x2, a, a2, o', x3, ?_, x5, ?_, x7, m _ x8⟩)))))
        · rw [ec]
          exact x4
        · unfold CN
          rw [ec]
          exact x6
      · exact Or.inr (Or.inr (Or.inr (Or.inr (Or.inr (Or.inr ⟨x1, x2, a, o', x3, x4, m _ x5⟩)))))
theorem AR_A (e : ∀ f, f ≠ 3 → A' f = A f) : ∀ (d : Nat) (b : Int) (o : Option Nat), AR v A U d b o → AR v A' U d b o := by
  have e2 := e 2 (by decide)
  have e4 := e 4 (by decide)
  intro d
  induction d with
  | zero => intro b o z; exact z
  | succ d m =>
    intro b o x
    rw [AR] at x ⊢
    obtain ⟨b0, x⟩ := x
    refine ⟨b0, ?_⟩
    rw [e2, e4]
    rcases x with x | ⟨x1, x2, x3⟩ | ⟨x1, x2, a, o', x3, x4, x5⟩ | ⟨x1, x2, a, o', x3, x4, x5⟩ | ⟨x1, x2, a, o', x3, x4, x5⟩ | ⟨x1, x2, a, a2, o', x3, x4, x5, x6, x7, x8⟩ | ⟨x1, x2, a, o', x3, x4, x5⟩
    · exact Or.inl x
    · exact Or.inr (Or.inl ⟨x1, x2, m _ _ x3⟩)
    · exact Or.inr (Or.inr (Or.inl ⟨x1, x2, a, o', x3, x4, m _ _ x5⟩))
    · exact Or.inr (Or.inr (Or.inr (Or.inl ⟨x1, x2, a, o', x3, x4, m _ _ x5⟩)))
    · exact Or.inr (Or.inr (Or.inr (Or.inr (Or.inl ⟨x1, x2, a, o', x3, x4, m _ _ x5⟩))))
    · refine Or.inr (Or.inr (Or.inr (Or.inr (Or.inr (Or.inl ⟨x1, x2, a, a2, o', x3, x4, x5, ?_, x7, m _ _ x8⟩)))))
      unfold CN
      rw [e4]
      exact x6
    · exact Or.inr (Or.inr (Or.inr (Or.inr (Or.inr (Or.inr ⟨x1, x2, a, o', x3, x4, m _ _ x5⟩)))))
theorem CH_fxa (w0 : 0 ≤ w) (h : FX w s U U') (ab : ∀ i, 0 ≤ i → i < S 55 0 → Ab w U (S 56 i)) (n19 : 0 ≤ U 19 w) (p : PR w U) (ne : ∀ i, 1 ≤ i → i < S 55 0 → U 42 (S 56 i) ≠ s) (d1 : 1 ≤ S 55 0) (e55 : S' 55 0 = S 55 0) (e56 : ∀ i, i < S 55 0 → S' 56 i = S 56 i) (x : CH S U) : CH S' U' := by
  refine ⟨?_, fun i i1 i2 => ?_⟩
  · rw [e56 0 (by omega), h.fb (ab 0 (by omega) (by omega)) (by decide) (by decide)]
    exact x.1
  · obtain ⟨x1, x2, x3⟩ := x.2 i i1 (by omega)
    obtain ⟨p1, _⟩ := p.1.2.1 _ (ab i (by omega) (by omega))
    have oA : As w U (U 42 (S 56 i)) := by
      rcases p1 with ⟨q1, _⟩ | ⟨_, q2, _⟩
      · exact absurd q1 x2
      · exact q2
    rw [e56 i (by omega), e56 (i - 1) (by omega), h.fb (f := 42) (ab i (by omega) (by omega)) (by decide) (by decide), h.fb (f := 41) (ab i (by omega) (by omega)) (by decide) (by decide)]
    refine ⟨?_, x2, fun y => by rw [h.fs oA (by decide) (by decide) (by decide) (Or.inl (ne i i1 (by omega)))]; exact x3 y⟩
    rw [← x1]
    refine h.2.2.2 22 _ (by decide) (by decide) (by decide) (by decide) (by decide) (by decide) ?_ (by unfold exm; omega)
    unfold fuB
    rw [if_neg (by decide), if_pos (by decide)]
    rcases p1 with ⟨_, q2⟩ | ⟨_, q2, _⟩
    · rw [q2]
      omega
    · exact q2.2
theorem PI.ab (hP : PI w S U) : ∀ i, 0 ≤ i → i < S 55 0 → Ab w U (S 56 i) := fun i i0 i1 => by
  have := hP.2.2.2.2.2.2.2.1 i i0 i1
  exact ⟨by omega, by omega⟩
theorem own_ne (hP : PI w S U) (p : PR w U) (x : CH S U) (d1 : 1 ≤ S 55 0) (e22 : U 22 s = S 56 (S 55 0 - 1)) : ∀ i, 1 ≤ i → i < S 55 0 → U 42 (S 56 i) ≠ s := by
  have up : ∀ i, 1 ≤ i → i < S 55 0 → S 56 (i - 1) < S 56 i := fun i i1 i2 => by
    obtain ⟨x1, x2, _⟩ := x.2 i i1 i2
    obtain ⟨p1, _⟩ := p.1.2.1 _ (hP.ab i (by omega) i2)
    rcases p1 with ⟨q1, _⟩ | ⟨_, _, q3⟩
    · exact absurd q1 x2
    · rw [x1] at q3
      exact q3
  have mo : ∀ (n : Nat) (i : Int), 0 ≤ i → i + n < S 55 0 → S 56 i ≤ S 56 (i + n) := by
    intro n
    induction n with
    | zero => intro i _ _; rw [show i + ((0 : Nat) : Int) = i by omega]; exact Int.le_refl _
    | succ n ih =>
      intro i h0 h1
      have a := ih i h0 (by omega)
      have b := up (i + ((n + 1 : Nat) : Int)) (by omega) h1
      rw [show i + ((n + 1 : Nat) : Int) - 1 = i + n by omega] at b
      omega
  intro i i1 i2 e
  have a := (x.2 i i1 i2).1
  rw [e, e22] at a
  have b := up i i1 i2
  have c := mo (S 55 0 - 1 - i).toNat i (by omega) (by omega)
  rw [show i + ((S 55 0 - 1 - i).toNat : Int) = S 55 0 - 1 by omega] at c
  omega
theorem CH_fx (w0 : 0 ≤ w) (h : FX w s U U') (hP : PI w S U) (p : PR w U) (ne : ∀ i, 1 ≤ i → i < S 55 0 → U 42 (S 56 i) ≠ s) (d1 : 1 ≤ S 55 0) (e55 : S' 55 0 = S 55 0) (e56 : ∀ i, i < S 55 0 → S' 56 i = S 56 i) (x : CH S U) : CH S' U' := CH_fxa w0 h hP.ab hP.2.2.2.2.2.1.1 p ne d1 e55 e56 x
theorem CH_fua (w0 : 0 ≤ w) (h : FU w U U') (ab : ∀ i, 0 ≤ i → i < S 55 0 → Ab w U (S 56 i)) (n19 : 0 ≤ U 19 w) (p : PR w U) (d1 : 1 ≤ S 55 0) (e55 : S' 55 0 = S 55 0) (e56 : ∀ i, i < S 55 0 → S' 56 i = S 56 i) (x : CH S U) : CH S' U' := by
  refine CH_fxa (s := -1) w0 (h.fx ?_) ab n19 p (fun i i1 i2 e => ?_) d1 e55 e56 x
  rotate_left
  · obtain ⟨p1, _⟩ := p.1.2.1 _ (ab i (by omega) i2)
    rcases p1 with ⟨q1, _⟩ | ⟨_, q2, _⟩
    · exact (x.2 i i1 i2).2.1 q1
    · have := q2.1
      omega
  rw [h.2.2 33 (-1) (by decide) (by decide) (by decide) (by decide) (by decide) (by decide) (by unfold fuB; rw [if_neg (by decide), if_pos (by decide)]; omega)]
  exact Int.le_refl _
theorem CH_fu (w0 : 0 ≤ w) (h : FU w U U') (hP : PI w S U) (p : PR w U) (d1 : 1 ≤ S 55 0) (e55 : S' 55 0 = S 55 0) (e56 : ∀ i, i < S 55 0 → S' 56 i = S 56 i) (x : CH S U) : CH S' U' := CH_fua w0 h hP.ab hP.2.2.2.2.2.1.1 p d1 e55 e56 x
theorem tTr_len (x : CH S U) : ∀ (d i : Nat), (i : Int) < S 55 0 → (tTr U d (S 56 i)).length ≤ i := by
  intro d
  induction d with
  | zero => intro i _; rw [tTr]; exact Nat.zero_le _
  | succ d ih =>
    intro i hi
    rw [tTr]
    cases i with
    | zero =>
      have e : U 41 (S 56 ((0 : Nat) : Int)) = 0 := x.1
      rw [if_pos (Or.inl e)]
      exact Nat.le_refl _
    | succ i =>
      have y := ih i (by omega)
      have e := (x.2 ((i + 1 : Nat) : Int) (by omega) hi).1
      rw [e, show ((i + 1 : Nat) : Int) - 1 = (i : Int) by omega]
      split
      · exact Nat.zero_le _
      · split
        · exact Nat.zero_le _
        · rw [List.length_append]
          have z : (if U 41 (S 56 ((i + 1 : Nat) : Int)) = 5 ∨ U 41 (S 56 ((i + 1 : Nat) : Int)) = 6 then [U 42 (S 56 ((i + 1 : Nat) : Int))] else []).length ≤ 1 := if_len
          omega
theorem AE.refl : AE w U A A T T := ⟨fun _ _ => ⟨rfl, rfl⟩, fun _ _ => rfl, fun _ _ _ => rfl, rfl, rfl, fun _ _ _ => rfl⟩
theorem AE.tr (p : AE w U A A' T T') (hS : ∀ s, As w U s → As w U' s ∧ U 33 s ≤ U' 33 s) (hB : ∀ b, Ab w U b → Ab w U' b) (q : AE w U' A' A'' T' T'') : AE w U A A'' T T'' := by
  obtain ⟨p1, p2, p3, p4, p5, p6⟩ := p
  obtain ⟨q1, q2, q3, q4, q5, q6⟩ := q
  refine ⟨fun s hs => ?_, fun b hb => ?_, fun c hc hr => ?_, q4.trans p4, q5.trans p5, fun a h0 h4 => ?_⟩
  · have a := q1 s (hS s hs).1
    have b := p1 s hs
    exact ⟨a.1.trans b.1, a.2.trans b.2⟩
  · exact (q2 b (hB b hb)).trans (p2 b hb)
  · exact (q3 c (hS _ hc).1 (Int.lt_of_lt_of_le hr (hS _ hc).2)).trans (p3 c hc hr)
  · have e := p6 a h0 h4
    rw [q6 a (by rw [e]; exact h0) (by rw [e]; exact h4), e]
theorem AE.trans (p : AE w U A A' T T') (f : FU w U U') (q : AE w U' A' A'' T' T'') : AE w U A A'' T T'' :=
  p.tr (fun s hs => ⟨f.aS hs, by rw [f.fs hs (by decide) (by decide) (by decide)]; exact Int.le_refl _⟩) (fun b hb => f.aB hb) q
theorem Xb_tr (f : Fw (Xb (R 0) (R 2) T) v v') (g : Fw (Xb (R 0) (R 2) T') v' v'') (t : ∀ a, a < hN v.1 → T' a = T a) : Fw (Xb (R 0) (R 2) T) v v'' := f.tr2 g (fun a k z => by
  by_cases l : a < hN v.1
  · right
    unfold Xb at z ⊢
    rw [t a l] at z
    exact z
  · left
    omega)
theorem MX.trans (p : MX R T v v' n m) (q : MX R T' v' v'' n1 m1) (t : ∀ a, a < hN v.1 → T' a = T a) : MX R T v v'' (n + n1) (m + m1) := ⟨Xb_tr p.1 q.1 t, p.2.trans q.2⟩
theorem MX.le (p : MX R T v v' n m) (h1 : n ≤ n1) (h2 : m ≤ m1) : MX R T v v' n1 m1 := ⟨p.1, p.2.le h1 h2⟩
theorem SX.trans {c d c1 d1 c2 d2 : Int} (p : SX R w c d A T v S U A' T' v' S' U') (q : SX R w c1 d1 A' T' v' S' U' A'' T'' v'' S'' U'') (h1 : c2 ≤ c + c1) (h2 : d2 ≤ d + d1) : SX R w c2 d2 A T v S U A'' T'' v'' S'' U'' := by
  obtain ⟨p1, p2, p3, p4, p5, p6⟩ := p
  obtain ⟨q1, q2, q3, q4, q5, q6⟩ := q
  refine ⟨(p1.trans q1 p3).le (by omega) (by omega), p2.trans p4 q2, fun a ha => ?_, p4.trans q4, by omega, by omega⟩
  rw [q3 a (by have := p1.1.1; omega), p3 a ha]
theorem WX.pre {k k' : Int} (p : MX R T v v' n m) (t : ∀ a, a < hN v.1 → T' a = T a) (h1 : n ≤ 300 * (S' 47 0 - S 47 0) + 60 * (k - k')) (h2 : m ≤ 2000 * (S' 47 0 - S 47 0) + 800 * (k - k')) (e : S' 48 0 = S 48 0) {q : Int} (x : WX R T' v' v'' S' k' q) : WX R T v v'' S k q := by
  obtain ⟨x1, x2, x3⟩ := x
  exact ⟨(p.trans x1 t).le (by omega) (by omega), x2, x3⟩
theorem WX.pre' {k k' : Int} {q : Int} (x : WX R T' v' v'' S' k' q) (p : MX R T v v' n m) (t : ∀ a, a < hN v.1 → T' a = T a) (h1 : n ≤ 300 * (S' 47 0 - S 47 0) + 60 * (k - k')) (h2 : m ≤ 2000 * (S' 47 0 - S 47 0) + 800 * (k - k')) (e : S' 48 0 = S 48 0) : WX R T v v'' S k q := WX.pre p t h1 h2 e x
theorem ML_cp (g : GI R A T w s p0 v S U) (qv : QV U) : vCp v (R 9) ≤ 5210 := by
  obtain ⟨_, _, _, _, _, _, _, ⟨L, ga, gb⟩, _⟩ := g
  have a := ga.2
  have b := gb.length_eq
  have c := mPar_len (w := w) qv
  rw [insA_len] at a
  simp only [List.length_nil] at a
  omega
/-- a frame of tokens, with its room -/
theorem MX_q (f : Fw (Xq (R 0) (R 2)) v v') (l9 : hK v.1 (R 9) = 4) (b1 : (hN v'.1 : Int) ≤ hN v.1 + n) (s0 : hS v.1 ≤ hS v'.1) (b2 : (hS v'.1 : Int) ≤ hS v.1 + m) : MX R T v v' n m := by
  refine ⟨f.mono (fun a k z => ?_), f.1, b1, s0, ?_, ?_⟩
  · rcases z with z | z
    · exact Or.inl ⟨z.1, by omega⟩
    · exact Or.inr (Or.inl z)
  · rw [(f.cc (hK_lt l9 (by decide)) (fun z => by rcases z with z | z <;> omega)).2.2.1]
    omega
  · rw [(f.cc (hK_lt l9 (by decide)) (fun z => by rcases z with z | z <;> omega)).2.2.1]
    exact Nat.le_refl _
theorem GI.k9 (g : GI R A T w s p0 v S U) : hK v.1 (R 9) = 4 := by
  obtain ⟨_, _, _, _, _, _, _, ⟨L, ga, _⟩, _⟩ := g
  exact ga.1.choose_spec.1.1
theorem Wg_X (g : GI R A T w s p0 v S U) (qv : QV U) {a c : Nat} {k : Int} (x : Wg (R 0) (R 2) a c v v' p) (ha : a ≤ 60 * k) (hc : c ≤ 800 * k) (si : S 47 0 ≤ S 48 0) : WX R T v v' S k p := by
  obtain ⟨x1, x2, x3, x4, x5⟩ := x
  have k9 := g.k9
  refine ⟨(MX_q x1 k9 (n := a) (m := c) (by omega) x4 (by omega)).le (by omega) (by omega), x2, ?_⟩
  rw [(x1.cc (hK_lt k9 (by decide)) (fun z => by rcases z with z | z <;> omega)).2.2.1]
  have := ML_cp g qv
  omega
theorem FU_fx (f : FU w U U') (h : FX w s U' U'') (hs : 120 * w + U 19 w ≤ s) (h0 : 0 ≤ s) : FU w U U'' := by
  refine ⟨Int.le_trans f.1 h.1, Int.le_trans f.2.1 h.2.1, fun g j a1 a2 a3 a4 a5 a6 a7 => ?_⟩
  rw [h.2.2.2 g j a1 a2 a3 a4 a5 a6 (Int.lt_of_lt_of_le a7 (fuB_mono f)) ?_, f.2.2 g j a1 a2 a3 a4 a5 a6 a7]
  unfold exm
  unfold fuB at a7
  rintro (⟨e1, e2⟩ | ⟨e1, e2⟩ | ⟨e1, e2⟩ | ⟨e1, e2⟩ | ⟨e1, e2⟩ | ⟨e1, e2⟩)
  · rw [if_neg (by omega), if_pos (by omega)] at a7
    omega
  · rw [if_neg (by omega), if_neg (by omega), if_pos (by omega)] at a7
    omega
  · rw [if_neg (by omega), if_neg (by omega), if_pos (by omega)] at a7
    omega
  · rw [if_neg (by omega), if_neg (by omega), if_pos (by omega)] at a7
    omega
  · omega
  · rw [if_neg (by omega), if_neg (by omega), if_neg (by omega), if_pos (by omega)] at a7
    omega
end CON
