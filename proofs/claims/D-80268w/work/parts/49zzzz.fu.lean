/-! PURE: old rows stay while a block is read *-/
/-- below this number the rows of a field are old -/
def fuB (U : tSt) (w : Int) (f : Nat) : Int :=
  if f ≤ 18 then 1000000 else if f ≤ 30 ∨ f = 33 then 120 * w + U 19 w else if f ≤ 37 then 4 * (120 * w + U 19 w) else if f ≤ 39 then 16 * (120 * w + U 19 w) else 1024 * w + U 40 w
def FU (w : Int) (U U' : tSt) : Prop := U 19 w ≤ U' 19 w ∧ U 40 w ≤ U' 40 w ∧ ∀ f j, f ≠ 19 → f ≠ 24 → f ≠ 40 → f ≠ 45 → f ≠ 46 → f ≤ 46 → j < fuB U w f → U' f j = U f j
section FUS
variable {w x b s c : Int} {U U' U'' : tSt} {v : vT} {A : Nat → Int → Nat} {T : Nat → Nat} {oc : Int → Option Nat} {cl : Int → List (Option Nat)}
theorem FU.refl : FU w U U := ⟨Int.le_refl _, Int.le_refl _, fun _ _ _ _ _ _ _ _ _ => rfl⟩
theorem fuB_mono {f : Nat} (h : FU w U U') : fuB U w f ≤ fuB U' w f := by
  obtain ⟨h1, h2, _⟩ := h
  unfold fuB
  repeat' split
  all_goals omega
theorem FU.trans (h : FU w U U') (k : FU w U' U'') : FU w U U'' := by
  refine ⟨Int.le_trans h.1 k.1, Int.le_trans h.2.1 k.2.1, fun f j a1 a2 a3 a4 a5 a6 a7 => ?_⟩
  rw [k.2.2 f j a1 a2 a3 a4 a5 a6 (Int.lt_of_lt_of_le a7 (fuB_mono h)), h.2.2 f j a1 a2 a3 a4 a5 a6 a7]
theorem FU.fk (h : FU w U U') {f : Nat} {j : Int} (hf : f ≤ 18) (hj : j < 1000000) : U' f j = U f j :=
  h.2.2 f j (by omega) (by omega) (by omega) (by omega) (by omega) (by omega) (by unfold fuB; rw [if_pos hf]; exact hj)
theorem FU.fs (h : FU w U U') {f : Nat} (hs : As w U s) (h1 : 20 ≤ f) (h2 : f ≤ 30 ∨ f = 33) (h3 : f ≠ 24) : U' f s = U f s :=
  h.2.2 f s (by omega) h3 (by omega) (by omega) (by omega) (by omega) (by unfold fuB; rw [if_neg (by omega), if_pos (by omega)]; exact hs.2)
theorem FU.fn (h : FU w U U') {f : Nat} {i : Int} (hs : As w U s) (h1 : f = 31 ∨ f = 32 ∨ (34 ≤ f ∧ f ≤ 37)) (h2 : i < 4) : U' f (4 * s + i) = U f (4 * s + i) :=
  h.2.2 f _ (by omega) (by omega) (by omega) (by omega) (by omega) (by omega) (by unfold fuB; rw [if_neg (by omega), if_neg (by omega), if_pos (by omega)]; have := hs.2; omega)
theorem FU.fm (h : FU w U U') {f : Nat} {i : Int} (hs : As w U (c / 4)) (h1 : f = 38 ∨ f = 39) (h2 : i < 4) : U' f (4 * c + i) = U f (4 * c + i) :=
  h.2.2 f _ (by omega) (by omega) (by omega) (by omega) (by omega) (by omega) (by unfold fuB; rw [if_neg (by omega), if_neg (by omega), if_neg (by omega), if_pos (by omega)]; have := hs.2; omega)
theorem FU.fb (h : FU w U U') {f : Nat} (hb : Ab w U b) (h1 : 41 ≤ f) (h2 : f ≤ 44) : U' f b = U f b :=
  h.2.2 f b (by omega) (by omega) (by omega) (by omega) (by omega) (by omega) (by unfold fuB; rw [if_neg (by omega), if_neg (by omega), if_neg (by omega), if_neg (by omega)]; exact hb.2)
theorem FU.aS (h : FU w U U') (hs : As w U s) : As w U' s := ⟨hs.1, by have := hs.2; have := h.1; omega⟩
theorem FU.aB (h : FU w U U') (hb : Ab w U b) : Ab w U' b := ⟨hb.1, by have := hb.2; have := h.2.1; omega⟩
theorem tFst_congr {p q : Int → Bool} : ∀ (d : Nat) (k : Int), (∀ j, k ≤ j → j < k + d → p j = q j) → tFst p d k = tFst q d k := by
  intro d
  induction d with
  | zero => intro k _; rfl
  | succ d ih =>
    intro k h
    rw [tFst, tFst, h k (by omega) (by omega), ih (k + 1) (fun j a b => h j (by omega) (by omega))]
theorem kO_fu (h : FU w U U') (w0 : 0 ≤ w ∧ w ≤ 1) (n3 : 4 ≤ U 3 w ∧ U 3 w ≤ 16) {a : Int} : kO U' w x a = kO U w x a := by
  unfold kO
  rw [h.fk (by decide) (by omega)]
  refine tFst_congr _ _ (fun j a b => ?_)
  rw [h.fk (f := 4) (by decide) (by omega), h.fk (f := 6) (by decide) (by omega)]
theorem mO_fu (h : FU w U U') (w0 : 0 ≤ w ∧ w ≤ 1) (n9 : 0 ≤ U 9 w ∧ U 9 w ≤ 12) : mO U' w x = mO U w x := by
  unfold mO
  rw [h.fk (by decide) (by omega)]
  refine tFst_congr _ _ (fun j a b => ?_)
  rw [h.fk (f := 10) (by decide) (by omega)]
theorem tPO_fu (h : FU w U U') (p : PQ w U) (qv : QV U) (w0 : 0 ≤ w) : ∀ (d : Nat) (b : Int) (z : Bool), (b = -1 ∨ Ab w U b) → tPO U' x d b z = tPO U x d b z := by
  intro d
  induction d with
  | zero => intro b z _; rfl
  | succ d ih =>
    intro b z hb
    rw [tPO, tPO]
    by_cases e : b = -1
    · rw [if_pos e, if_pos e]
    · have hb := hb.resolve_left e
      rw [if_neg e, if_neg e, h.fb hb (by decide) (by decide), h.fb (f := 42) hb (by decide) (by decide), h.fb (f := 43) hb (by decide) (by decide)]
      obtain ⟨p1, _, _, p4⟩ := p.2.1 b hb
      rcases p1 with ⟨q1, q2⟩ | ⟨q1, q2, q3⟩
      · have r6 : ¬ U 41 b = 6 := by omega
        have a1 : ¬ (U 41 b = 6 ∧ U' 35 (4 * U 42 b + U 43 b) = x) := fun y => r6 y.1
        have a2 : ¬ (U 41 b = 6 ∧ U 35 (4 * U 42 b + U 43 b) = x) := fun y => r6 y.1
        rw [if_neg a1, if_neg a2, if_pos q2, if_pos q2]
        exact ih _ _ (Or.inl rfl)
      · have e1 : U 42 b ≠ -1 := by have := q2.1; omega
        rw [if_neg e1, if_neg e1, h.fs q2 (by decide) (by decide) (by decide)]
        have ihp := fun z => ih (U 22 (U 42 b)) z (Or.inr (p.1 _ q2).1)
        rw [ihp]
        by_cases r6 : U 41 b = 6
        · have b33 := QV_b qv (f := 33) (c := 4) rfl rfl rfl (U 42 b)
          have := p4 r6
          rw [h.fn q2 (by decide) (by omega)]
        · have a1 : ¬ (U 41 b = 6 ∧ U' 35 (4 * U 42 b + U 43 b) = x) := fun y => r6 y.1
          have a2 : ¬ (U 41 b = 6 ∧ U 35 (4 * U 42 b + U 43 b) = x) := fun y => r6 y.1
          rw [if_neg a1, if_neg a2]
theorem tTg_fu (h : FU w U U') (p : PQ w U) : ∀ (d : Nat) (b : Int), Ab w U b → tTg U' d b = tTg U d b := by
  intro d
  induction d with
  | zero => intro b _; rfl
  | succ d ih =>
    intro b hb
    rw [tTg, tTg, h.fb hb (by decide) (by decide), h.fb (f := 42) hb (by decide) (by decide)]
    obtain ⟨p1, _⟩ := p.2.1 b hb
    rcases p1 with ⟨q1, q2⟩ | ⟨q1, q2, q3⟩
    · rw [if_pos (Or.inl q1), if_pos (Or.inl q1)]
    · rw [h.fs q2 (by decide) (by decide) (by decide), ih _ (p.1 _ q2).1]
theorem tTr_fu (h : FU w U U') (p : PQ w U) : ∀ (d : Nat) (b : Int), Ab w U b → tTr U' d b = tTr U d b := by
  intro d
  induction d with
  | zero => intro b _; rfl
  | succ d ih =>
    intro b hb
    rw [tTr, tTr, h.fb hb (by decide) (by decide), h.fb (f := 42) hb (by decide) (by decide)]
    obtain ⟨p1, _⟩ := p.2.1 b hb
    rcases p1 with ⟨q1, q2⟩ | ⟨q1, q2, q3⟩
    · rw [if_pos (Or.inl q1), if_pos (Or.inl q1)]
    · rw [h.fs q2 (by decide) (by decide) (by decide), ih _ (p.1 _ q2).1]
theorem pO_fu (h : FU w U U') (p : PQ w U) (qv : QV U) (w0 : 0 ≤ w) (hb : Ab w U b) : pO U' x b = pO U x b := tPO_fu h p qv w0 _ _ _ (Or.inr hb)
theorem tgt_fu (h : FU w U U') (p : PQ w U) (hs : As w U s) : tgt U' s = tgt U s := by
  unfold tgt
  rw [h.fs hs (by decide) (by decide) (by decide)]
  exact tTg_fu h p _ _ (p.1 s hs).1
theorem NL_congr {l : Nat} {n : Int} {kf pf kf' pf' : Int → Int} {B : Int → Nat} (x : NL v B l n kf pf) (e : ∀ i, 0 ≤ i → i < n → kf' i = kf i ∧ pf' i = pf i) : NL v B l n kf' pf' := by
  obtain ⟨x1, x2, x3, x4⟩ := x
  refine ⟨x1, x2, x3, fun i i0 i1 => ?_⟩
  obtain ⟨a, a1, a2, a3, a4⟩ := x4 i i0 i1
  exact ⟨a, a1, a2, by rw [(e i i0 i1).1]; exact a3, by rw [(e i i0 i1).2]; exact a4⟩
theorem FS_fu (h : FU w U U') (p : PQ w U) (qv : QV U) (w0 : 0 ≤ w ∧ w ≤ 1) (n3 : 4 ≤ U 3 w ∧ U 3 w ≤ 16) (hs : As w U s) (x : FS v A T U w oc cl s) : FS v A T U' w oc cl s := by
  have ab := (p.1 s hs).1
  have e := fun f h1 h2 h3 => h.fs (f := f) hs h1 h2 h3
  have b30 := QV_b qv (f := 30) (c := 4) rfl rfl rfl s
  unfold FS
  rw [e 20 (by decide) (by decide) (by decide), e 22 (by decide) (by decide) (by decide), e 25 (by decide) (by decide) (by decide), e 26 (by decide) (by decide) (by decide), e 27 (by decide) (by decide) (by decide), e 28 (by decide) (by decide) (by decide), e 29 (by decide) (by decide) (by decide), e 30 (by decide) (by decide) (by decide), e 33 (by decide) (by decide) (by decide), pO_fu h p qv w0.1 ab, tgt_fu h p hs, tTr_fu h p _ _ ab, kO_fu h w0 n3]
  obtain ⟨x0, x3, x1, x2, x4, x5, x7, x9, xa, xb, xn⟩ := x
  refine ⟨x0, x3, x1, x2, x4, x5, x7, fun e9 => ?_, fun ea => ?_, xb, xn⟩
  · obtain ⟨a, b, c, l5, l6, l7, l9, t, k, r, n, q5, q6, q7, q9⟩ := x9 e9
    refine ⟨a, b, c, l5, l6, l7, l9, t, k, r, n, fun i i0 i1 => ?_, fun i i0 i1 => ?_, q7, q9⟩
    · rw [h.fn hs (by decide) (by omega)]
      exact q5 i i0 i1
    · rw [h.fn hs (by decide) (by omega)]
      exact q6 i i0 i1
  · obtain ⟨a, b, l, c, d, y⟩ := xa ea
    refine ⟨a, b, l, c, d, NL_congr y (fun i i0 i1 => ?_)⟩
    rw [h.fn (f := 31) hs (by decide) (by omega), h.fn (f := 32) hs (by decide) (by omega), kO_fu h w0 n3]
    exact ⟨rfl, rfl⟩
theorem CF_fu (h : FU w U U') (qv : QV U) (w0 : 0 ≤ w ∧ w ≤ 1) (n3 : 4 ≤ U 3 w ∧ U 3 w ≤ 16) (hs : As w U (c / 4)) (x : CF v A T U w c) : CF v A T U' w c := by
  have e : ∀ f, (34 ≤ f ∧ f ≤ 37) → U' f c = U f c := fun f hf => by
    have := h.fn (f := f) (i := c % 4) hs (by omega) (by omega)
    rw [show 4 * (c / 4) + c % 4 = c by omega] at this
    exact this
  have b37 := QV_b qv (f := 37) (c := 4) rfl rfl rfl c
  obtain ⟨x1, x2, x3, x4, l, x5, x6, x7⟩ := x
  refine ⟨x1, x2, x3, by rw [e 35 (by decide)]; exact x4, l, x5, x6, ?_⟩
  rw [e 37 (by decide)]
  refine NL_congr x7 (fun i i0 i1 => ?_)
  unfold cK
  rw [h.fm (f := 38) hs (by decide) (by omega), h.fm (f := 39) hs (by decide) (by omega), kO_fu h w0 n3]
  exact ⟨rfl, rfl⟩
theorem AR_fu (h : FU w U U') (p : PQ w U) (qv : QV U) : ∀ (d : Nat) (b : Int) (o : Option Nat), Ab w U b → AR v A U d b o → AR v A U' d b o := by
  intro d
  induction d with
  | zero => intro b o _ z; exact z
  | succ d ih =>
    intro b o hb x
    rw [AR] at x ⊢
    obtain ⟨b0, x⟩ := x
    refine ⟨b0, ?_⟩
    rw [h.fb (f := 41) hb (by decide) (by decide), h.fb (f := 42) hb (by decide) (by decide), h.fb (f := 43) hb (by decide) (by decide)]
    obtain ⟨p1, _, _, p4⟩ := p.2.1 b hb
    rcases p1 with ⟨q1, q2⟩ | ⟨q1, q2, q3⟩
    · rcases x with x | ⟨x1, x2, _⟩ | ⟨x1, x2, _⟩ | ⟨x1, x2, _⟩ | ⟨x1, x2, _⟩ | ⟨x1, x2, _⟩ | ⟨x1, x2, _⟩
      · exact Or.inl x
      all_goals exact absurd q2 x2
    · have m := fun o => ih (U 22 (U 42 b)) o (p.1 _ q2).1
      rw [h.fs (f := 22) q2 (by decide) (by decide) (by decide)]
      rcases x with x | ⟨x1, x2, x3⟩ | ⟨x1, x2, a, o', x3, x4, x5⟩ | ⟨x1, x2, a, o', x3, x4, x5⟩ | ⟨x1, x2, a, o', x3, x4, x5⟩ | ⟨x1, x2, a, a2, o', x3, x4, x5, x6, x7, x8⟩ | ⟨x1, x2, a, o', x3, x4, x5⟩
      · exact Or.inl x
      · exact Or.inr (Or.inl ⟨x1, x2, m _ x3⟩)
      · exact Or.inr (Or.inr (Or.inl ⟨x1, x2, a, o', x3, x4, m _ x5⟩))
      · exact Or.inr (Or.inr (Or.inr (Or.inl ⟨x1, x2, a, o', x3, x4, m _ x5⟩)))
      · exact Or.inr (Or.inr (Or.inr (Or.inr (Or.inl ⟨x1, x2, a, o', x3, x4, m _ x5⟩))))
      · refine Or.inr (Or.inr (Or.inr (Or.inr (Or.inr (Or.inl ⟨x1, x2, a, a2, o', x3, x4, x5, ?_, x7, m _ x8⟩)))))
        have b33 := QV_b qv (f := 33) (c := 4) rfl rfl rfl (U 42 b)
        have := p4 x1
        unfold CN
        rw [h.fn (f := 35) q2 (by decide) (by omega)]
        exact x6
      · exact Or.inr (Or.inr (Or.inr (Or.inr (Or.inr (Or.inr ⟨x1, x2, a, o', x3, x4, m _ x5⟩)))))
end FUS
