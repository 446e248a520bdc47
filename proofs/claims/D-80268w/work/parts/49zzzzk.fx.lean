/-! PURE: old rows stay, but for those of a statement in hand *-/
/-- rows of the statement z that may still change -/
def exm (U : tSt) (z : Int) (f : Nat) (j : Int) : Prop :=
  (j = z ∧ (f = 20 ∨ (25 ≤ f ∧ f ≤ 30) ∨ f = 33)) ∨ ((f = 31 ∨ f = 32) ∧ 4 * z ≤ j ∧ j < 4 * z + 4) ∨ ((35 ≤ f ∧ f ≤ 37) ∧ 4 * z + U 33 z ≤ j ∧ 4 * z ≤ j ∧ j < 4 * z + 4) ∨ (f = 34 ∧ 4 * z ≤ j ∧ j < 4 * z + 4) ∨ (f = 18 ∧ z < 0) ∨ ((f = 38 ∨ f = 39) ∧ 16 * z + 4 * U 33 z ≤ j ∧ 16 * z ≤ j ∧ j < 16 * z + 16)
def FX (w z : Int) (U U' : tSt) : Prop := U 19 w ≤ U' 19 w ∧ U 40 w ≤ U' 40 w ∧ U 33 z ≤ U' 33 z ∧ ∀ f j, f ≠ 19 → f ≠ 24 → f ≠ 40 → f ≠ 45 → f ≠ 46 → f ≤ 46 → j < fuB U w f → ¬ exm U z f j → U' f j = U f j
section FXS
variable {w x b s c z k : Int} {U U' : tSt} {v : vT} {A : Nat → Int → Nat} {T : Nat → Nat} {oc : Int → Option Nat} {cl : Int → List (Option Nat)}
theorem FU.fx (h : FU w U U') (hz : U 33 z ≤ U' 33 z) : FX w z U U' := ⟨h.1, h.2.1, hz, fun f j a1 a2 a3 a4 a5 a6 a7 _ => h.2.2 f j a1 a2 a3 a4 a5 a6 a7⟩
theorem FX.fk (h : FX w z U U') {f : Nat} {j : Int} (hf : f ≤ 17) (hj : j < 1000000) : U' f j = U f j :=
  h.2.2.2 f j (by omega) (by omega) (by omega) (by omega) (by omega) (by omega) (by unfold fuB; rw [if_pos (by omega)]; exact hj) (by unfold exm; omega)
theorem FX.fs (h : FX w z U U') {f : Nat} (hs : As w U s) (h1 : 20 ≤ f) (h2 : f ≤ 30 ∨ f = 33) (h3 : f ≠ 24) (hz : s ≠ z ∨ f = 21 ∨ f = 22 ∨ f = 23) : U' f s = U f s :=
  h.2.2.2 f s (by omega) h3 (by omega) (by omega) (by omega) (by omega) (by unfold fuB; rw [if_neg (by omega), if_pos (by omega)]; exact hs.2) (by unfold exm; omega)
theorem FX.fn (h : FX w z U U') {f : Nat} {i : Int} (hs : As w U s) (h1 : f = 31 ∨ f = 32 ∨ (34 ≤ f ∧ f ≤ 37)) (h0 : 0 ≤ i) (h2 : i < 4) (hz : s ≠ z) : U' f (4 * s + i) = U f (4 * s + i) :=
  h.2.2.2 f _ (by omega) (by omega) (by omega) (by omega) (by omega) (by omega) (by unfold fuB; rw [if_neg (by omega), if_neg (by omega), if_pos (by omega)]; have := hs.2; omega) (by unfold exm; omega)
/-- rows of a catch that was begun -/
theorem FX.fc (h : FX w z U U') {f : Nat} (hs : As w U (c / 4)) (hr : c % 4 < U 33 (c / 4)) (h33 : U 33 (c / 4) ≤ 4) (h1 : 35 ≤ f ∧ f ≤ 37) : U' f c = U f c :=
  h.2.2.2 f _ (by omega) (by omega) (by omega) (by omega) (by omega) (by omega) (by unfold fuB; rw [if_neg (by omega), if_neg (by omega), if_pos (by omega)]; have := hs.2; omega) (by
    unfold exm
    by_cases e : c / 4 = z
    · rw [e] at hr
      omega
    · omega)
theorem FX.fm (h : FX w z U U') {f : Nat} {i : Int} (hs : As w U (c / 4)) (hr : c % 4 < U 33 (c / 4)) (h1 : f = 38 ∨ f = 39) (h0 : 0 ≤ i) (h2 : i < 4) : U' f (4 * c + i) = U f (4 * c + i) :=
  h.2.2.2 f _ (by omega) (by omega) (by omega) (by omega) (by omega) (by omega) (by unfold fuB; rw [if_neg (by omega), if_neg (by omega), if_neg (by omega), if_pos (by omega)]; have := hs.2; omega) (by
    unfold exm
    by_cases e : c / 4 = z
    · rw [e] at hr
      omega
    · omega)
theorem FX.fb (h : FX w z U U') {f : Nat} (hb : Ab w U b) (h1 : 41 ≤ f) (h2 : f ≤ 44) : U' f b = U f b :=
  h.2.2.2 f b (by omega) (by omega) (by omega) (by omega) (by omega) (by omega) (by unfold fuB; rw [if_neg (by omega), if_neg (by omega), if_neg (by omega), if_neg (by omega)]; exact hb.2) (by unfold exm; omega)
theorem kO_fx (h : FX w z U U') (w0 : 0 ≤ w ∧ w ≤ 1) (n3 : 4 ≤ U 3 w ∧ U 3 w ≤ 16) {a : Int} : kO U' w x a = kO U w x a := by
  unfold kO
  rw [h.fk (by decide) (by omega)]
  refine tFst_congr _ _ (fun j a b => ?_)
  rw [h.fk (f := 4) (by decide) (by omega), h.fk (f := 6) (by decide) (by omega)]
theorem tPO_fx (h : FX w z U U') (p : PQ w U) (qv : QV U) (w0 : 0 ≤ w) : ∀ (d : Nat) (b : Int) (y : Bool), (b = -1 ∨ Ab w U b) → tPO U' x d b y = tPO U x d b y := by
  intro d
  induction d with
  | zero => intro b y _; rfl
  | succ d ih =>
    intro b y hb
    rw [tPO, tPO]
    by_cases e : b = -1
    · rw [if_pos e, if_pos e]
    · have hb := hb.resolve_left e
      rw [if_neg e, if_neg e, h.fb hb (by decide) (by decide), h.fb (f := 42) hb (by decide) (by decide), h.fb (f := 43) hb (by decide) (by decide)]
      obtain ⟨p1, _, _, p4⟩ := p.2.1 b hb
      rcases p1 with ⟨q1, q2⟩ | ⟨q1, q2, q3⟩
      · have r6 : ¬ U 41 b = 6 := by omega
        have a1 : ¬ (U 41 b = 6 ∧ U' 35 (4 * U 42 b + U 43 b) = x) := fun y => r6 y.1
        have a2 : ¬ (U 41 b = 6 ∧ U 35 (4 * U 42 b + U 43 b) = x) := fun y => r6 y.1
        rw [if_neg a1, if_neg a2, if_pos q2, if_pos q2]
        exact ih _ _ (Or.inl rfl)
      · have e1 : U 42 b ≠ -1 := by have := q2.1; omega
        rw [if_neg e1, if_neg e1, h.fs q2 (by decide) (by decide) (by decide) (Or.inr (Or.inr (Or.inl rfl)))]
        have ihp := fun y => ih (U 22 (U 42 b)) y (Or.inr (p.1 _ q2).1)
        rw [ihp]
        by_cases r6 : U 41 b = 6
        · have b33 := QV_b qv (f := 33) (c := 4) rfl rfl rfl (U 42 b)
          have p5 := p4 r6
          have e4 : (4 * U 42 b + U 43 b) / 4 = U 42 b := by omega
          rw [h.fc (c := 4 * U 42 b + U 43 b) (f := 35) (by rw [e4]; exact q2) (by rw [e4]; omega) (by rw [e4]; omega) (by decide)]
        · have a1 : ¬ (U 41 b = 6 ∧ U' 35 (4 * U 42 b + U 43 b) = x) := fun y => r6 y.1
          have a2 : ¬ (U 41 b = 6 ∧ U 35 (4 * U 42 b + U 43 b) = x) := fun y => r6 y.1
          rw [if_neg a1, if_neg a2]
theorem pO_fx (h : FX w z U U') (p : PQ w U) (qv : QV U) (w0 : 0 ≤ w) (hb : Ab w U b) : pO U' x b = pO U x b := tPO_fx h p qv w0 _ _ _ (Or.inr hb)
theorem tTg_fx (h : FX w z U U') (p : PQ w U) : ∀ (d : Nat) (b : Int), Ab w U b → tTg U' d b = tTg U d b := by
  intro d
  induction d with
  | zero => intro b _; rfl
  | succ d ih =>
    intro b hb
    rw [tTg, tTg, h.fb hb (by decide) (by decide), h.fb (f := 42) hb (by decide) (by decide)]
    obtain ⟨p1, _⟩ := p.2.1 b hb
    rcases p1 with ⟨q1, q2⟩ | ⟨q1, q2, q3⟩
    · rw [if_pos (Or.inl q1), if_pos (Or.inl q1)]
    · rw [h.fs q2 (by decide) (by decide) (by decide) (Or.inr (Or.inr (Or.inl rfl))), ih _ (p.1 _ q2).1]
theorem tTr_fx (h : FX w z U U') (p : PQ w U) : ∀ (d : Nat) (b : Int), Ab w U b → tTr U' d b = tTr U d b := by
  intro d
  induction d with
  | zero => intro b _; rfl
  | succ d ih =>
    intro b hb
    rw [tTr, tTr, h.fb hb (by decide) (by decide), h.fb (f := 42) hb (by decide) (by decide)]
    obtain ⟨p1, _⟩ := p.2.1 b hb
    rcases p1 with ⟨q1, q2⟩ | ⟨q1, q2, q3⟩
    · rw [if_pos (Or.inl q1), if_pos (Or.inl q1)]
    · rw [h.fs q2 (by decide) (by decide) (by decide) (Or.inr (Or.inr (Or.inl rfl))), ih _ (p.1 _ q2).1]
theorem tgt_fx (h : FX w z U U') (p : PQ w U) (hs : As w U s) : tgt U' s = tgt U s := by
  unfold tgt
  rw [h.fs hs (by decide) (by decide) (by decide) (Or.inr (Or.inr (Or.inl rfl)))]
  exact tTg_fx h p _ _ (p.1 s hs).1
theorem FS_fx (h : FX w z U U') (p : PQ w U) (qv : QV U) (w0 : 0 ≤ w ∧ w ≤ 1) (n3 : 4 ≤ U 3 w ∧ U 3 w ≤ 16) (hs : As w U s) (hz : s ≠ z) (x : FS v A T U w oc cl s) : FS v A T U' w oc cl s := by
  have ab := (p.1 s hs).1
  have e := fun f h1 h2 h3 => h.fs (f := f) hs h1 h2 h3 (Or.inl hz)
  have b30 := QV_b qv (f := 30) (c := 4) rfl rfl rfl s
  unfold FS
  rw [e 20 (by decide) (by decide) (by decide), e 22 (by decide) (by decide) (by decide), e 25 (by decide) (by decide) (by decide), e 26 (by decide) (by decide) (by decide), e 27 (by decide) (by decide) (by decide), e 28 (by decide) (by decide) (by decide), e 29 (by decide) (by decide) (by decide), e 30 (by decide) (by decide) (by decide), e 33 (by decide) (by decide) (by decide), pO_fx h p qv w0.1 ab, tgt_fx h p hs, tTr_fx h p _ _ ab, kO_fx h w0 n3]
  obtain ⟨x0, x3, x1, x2, x4, x5, x7, x9, xa, xb, xn⟩ := x
  refine ⟨x0, x3, x1, x2, x4, x5, x7, fun e9 => ?_, fun ea => ?_, xb, xn⟩
  · obtain ⟨a, b, c, l5, l6, l7, l9, t, k, r, n, q5, q6, q7, q9⟩ := x9 e9
    refine ⟨a, b, c, l5, l6, l7, l9, t, k, r, n, fun i i0 i1 => ?_, fun i i0 i1 => ?_, q7, q9⟩
    · rw [h.fn hs (by decide) i0 (by omega) hz]
      exact q5 i i0 i1
    · rw [h.fn hs (by decide) i0 (by omega) hz]
      exact q6 i i0 i1
  · obtain ⟨a, b, l, c, d, y⟩ := xa ea
    refine ⟨a, b, l, c, d, NL_congr y (fun i i0 i1 => ?_)⟩
    rw [h.fn (f := 31) hs (by decide) i0 (by omega) hz, h.fn (f := 32) hs (by decide) i0 (by omega) hz, kO_fx h w0 n3]
    exact ⟨rfl, rfl⟩
theorem CF_fx (h : FX w z U U') (qv : QV U) (w0 : 0 ≤ w ∧ w ≤ 1) (n3 : 4 ≤ U 3 w ∧ U 3 w ≤ 16) (hs : As w U (c / 4)) (hr : c % 4 < U 33 (c / 4)) (x : CF v A T U w c) : CF v A T U' w c := by
  have b33 := QV_b qv (f := 33) (c := 4) rfl rfl rfl (c / 4)
  have e : ∀ f, (35 ≤ f ∧ f ≤ 37) → U' f c = U f c := fun f hf => h.fc hs hr b33.2 hf
  have b37 := QV_b qv (f := 37) (c := 4) rfl rfl rfl c
  obtain ⟨x1, x2, x3, x4, l, x5, x6, x7⟩ := x
  refine ⟨x1, x2, x3, by rw [e 35 (by decide)]; exact x4, l, x5, x6, ?_⟩
  rw [e 37 (by decide)]
  refine NL_congr x7 (fun i i0 i1 => ?_)
  unfold cK
  rw [h.fm (f := 38) hs hr (by decide) i0 (by omega), h.fm (f := 39) hs hr (by decide) i0 (by omega), kO_fx h w0 n3]
  exact ⟨rfl, rfl⟩
end FXS
