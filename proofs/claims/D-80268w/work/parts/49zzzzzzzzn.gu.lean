/-! COMPONENT, 105: a unit that was read: what may change of it *-/
/-- places of a unit that do not tell what was read: sums, what was caught, marks of readers and walks; r9: the mistakes -/
def XJ (v : vT) (T : Nat → Nat) (r9 : Nat) (a k : Nat) : Prop := (30 ≤ hK v.1 a ∧ hK v.1 a ≤ 38 ∧ (k = 3 ∨ k = 4 ∨ k = 11)) ∨ (hK v.1 a = 21 ∧ (k = 2 ∨ k = 3)) ∨ (hK v.1 a = 22 ∧ k = 5) ∨ (hK v.1 a = 14 ∨ hK v.1 a = 15) ∨ (1 ≤ hK v.1 a ∧ hK v.1 a ≤ 3) ∨ 40 ≤ hK v.1 a ∨ (a = r9 ∧ k = 99) ∨ (hK v.1 a = 4 ∧ k = 99 ∧ T a = 0)
/-- and what names mean: of one statement z (a call), of one list t0 (of a try), of methods -/
def XA (v : vT) (T : Nat → Nat) (r9 z t0 : Nat) (a k : Nat) : Prop := XJ v T r9 a k ∨ (a = z ∧ 30 ≤ hK v.1 a ∧ hK v.1 a ≤ 38 ∧ k = 6) ∨ (hK v.1 a = 4 ∧ k = 99 ∧ 7 ≤ T a ∧ T a = t0) ∨ (hK v.1 a = 18 ∧ k = 6)
section FAS
variable {X : Nat → Nat → Prop} {v v' : vT} {A : Nat → Int → Nat} {T : Nat → Nat} {U : tSt} {w s b c m : Int} {oc : Int → Option Nat} {cl : Int → List (Option Nat)} {r9 z t0 : Nat}
/-- a frame -/
def FA (X : Nat → Nat → Prop) (v v' : vT) (T : Nat → Nat) (r9 z t0 : Nat) : Prop := Fw X v v' ∧ (∀ a k, X a k → a < hN v.1 → XA v T r9 z t0 a k) ∧ TG v T ∧ hK v.1 r9 = 4
theorem FA.cc (f : FA X v v' T r9 z t0) {a n k : Nat} (e : hK v.1 a = n) (h : 4 < n ∧ n < 21 ∧ n ≠ 14 ∧ n ≠ 15 ∧ n ≠ 18) : ¬ X a k := fun y => by
  have k9 := f.2.2.2
  rcases f.2.1 a k y (hK_lt e (by omega)) with (y | y | y | y | y | y | y | y) | y | y | y
  · omega
  · omega
  · omega
  · omega
  · omega
  · omega
  · rw [y.1, k9] at e; omega
  · omega
  · omega
  · omega
  · omega
theorem FA.lc (f : FA X v v' T r9 z t0) {l : Nat} (e : hK v.1 l = 4) (h0 : T l ≠ 0) (h9 : l ≠ r9) (h7 : 7 ≤ T l → T l ≠ t0) : vLs v' l = vLs v l := (f.1.cc (hK_lt e (by decide)) (fun y => by
  rcases f.2.1 l 99 y (hK_lt e (by decide)) with (y | y | y | y | y | y | y | y) | y | y | y
  · omega
  · omega
  · omega
  · omega
  · omega
  · omega
  · exact h9 y.1
  · omega
  · omega
  · exact h7 y.2.2.1 y.2.2.2
  · omega)).1
theorem FA.ff (f : FA X v v' T r9 z t0) {a n k : Nat} (e : hK v.1 a = n) (h : 4 < n ∧ n < 21 ∧ n ≠ 14 ∧ n ≠ 15 ∧ n ≠ 18) : hI v'.1 a k = hI v.1 a k ∧ hJ v'.1 a k = hJ v.1 a k ∧ hR v'.1 a k = hR v.1 a k := f.1.ff (hK_lt e (by omega)) (f.cc e h)
theorem FA.fs (f : FA X v v' T r9 z t0) {a n k : Nat} (e : hK v.1 a = n) (h : 30 ≤ n ∧ n ≤ 38) (hk : k ≤ 2 ∨ (5 ≤ k ∧ k ≤ 10)) (hz : a ≠ z ∨ k ≠ 6) : hI v'.1 a k = hI v.1 a k ∧ hJ v'.1 a k = hJ v.1 a k ∧ hR v'.1 a k = hR v.1 a k := f.1.ff (hK_lt e (by omega)) (fun y => by
  have k9 := f.2.2.2
  rcases f.2.1 a k y (hK_lt e (by omega)) with (y | y | y | y | y | y | y | y) | y | y | y
  · omega
  · omega
  · omega
  · omega
  · omega
  · omega
  · rw [y.1, k9] at e; omega
  · omega
  · rcases hz with q | q
    · exact q y.1
    · omega
  · omega
  · omega)
theorem FA.fb (f : FA X v v' T r9 z t0) {a n k : Nat} (e : hK v.1 a = n) (h : (n = 21 ∧ k ≤ 1) ∨ (n = 22 ∧ k ≤ 4) ∨ (n = 18 ∧ k ≠ 6)) : hI v'.1 a k = hI v.1 a k ∧ hJ v'.1 a k = hJ v.1 a k ∧ hR v'.1 a k = hR v.1 a k := f.1.ff (hK_lt e (by omega)) (fun y => by
  have k9 := f.2.2.2
  rcases f.2.1 a k y (hK_lt e (by omega)) with (y | y | y | y | y | y | y | y) | y | y | y
  · omega
  · omega
  · omega
  · omega
  · omega
  · omega
  · rw [y.1, k9] at e; omega
  · omega
  · omega
  · omega
  · omega)
theorem TXn_a (f : FA X v v' T r9 z t0) {o : Option Nat} {x : Int} (t : TXn v o x) : TXn v' o x := by
  obtain ⟨a, a1, a2, a3, a4⟩ := t
  have tx : vTx v' a = vTx v a := (f.1.cc (hK_lt a2 (by decide)) (f.cc a2 (by decide))).2.2.2
  exact ⟨a, a1, f.1.kk a2 (by decide), by rw [tx]; exact a3, by rw [tx]; exact a4⟩
theorem NL_a (f : FA X v v' T r9 z t0) (t9 : T r9 = 3) {l : Nat} {n : Int} {kf pf : Int → Int} {B : Int → Nat} (t : T l = 1) (x : NL v B l n kf pf) : NL v' B l n kf pf := by
  obtain ⟨x1, x2, x3, x4⟩ := x
  have e : vLs v' l = vLs v l := f.lc x1 (by omega) (fun q => by rw [q] at t; omega) (by omega)
  refine ⟨f.1.kk x1 (by decide), by rw [e]; exact x2, x3, fun i i0 i1 => ?_⟩
  obtain ⟨a, a1, a2, a3, a4⟩ := x4 i i0 i1
  exact ⟨a, by rw [e]; exact a1, f.1.kk a2 (by decide), by rw [(f.ff (k := 0) a2 (by decide)).2.2]; exact a3, by rw [(f.ff (k := 1) a2 (by decide)).1]; exact a4⟩
theorem ls_a (f : FA X v v' T r9 z t0) (t9 : T r9 = 3) {l : Nat} (e : hK v.1 l = 4) (t : T l = 1) : vLs v' l = vLs v l := f.lc e (by omega) (fun q => by rw [q] at t; omega) (by omega)
theorem isIg_a (f : FA X v v' T r9 z t0) {e : Nat} {x : Int} (h : isIg v e x) : isIg v' e x := by
  obtain ⟨e2, e3⟩ := h
  rcases e2 with e2 | e2
  · exact ⟨Or.inl (f.1.kk e2 (by decide)), by rw [(f.ff (k := 0) e2 (by decide)).1]; exact e3⟩
  · exact ⟨Or.inr (f.1.kk e2 (by decide)), by rw [(f.ff (k := 0) e2 (by decide)).1]; exact e3⟩
theorem FB_a (f : FA X v v' T r9 z t0) (t9 : T r9 = 3) (x : FB v A T U w b) : FB v' A T U w b := by
  obtain ⟨x1, x2, l, x3, x4, x5, x6⟩ := x
  exact ⟨f.1.kk x1 (by decide), by rw [(f.fb (k := 1) x1 (by decide)).1]; exact x2, l, by rw [(f.fb (k := 0) x1 (by decide)).2.2]; exact x3, f.1.kk x4 (by decide), x5, by rw [ls_a f t9 x4 x5]; exact x6⟩
theorem CF_a (f : FA X v v' T r9 z t0) (t9 : T r9 = 3) (x : CF v A T U w c) : CF v' A T U w c := by
  obtain ⟨x1, x2, x3, x4, l, x5, x6, x7⟩ := x
  exact ⟨f.1.kk x1 (by decide), x2, by rw [(f.fb (k := 0) x1 (by decide)).2.2]; exact x3, by rw [(f.fb (k := 2) x1 (by decide)).2.2]; exact TXn_a f x4, l, by rw [(f.fb (k := 1) x1 (by decide)).2.2]; exact x5, x6, NL_a f t9 x6 x7⟩
theorem LB_a (f : FA X v v' T r9 z t0) (t9 : T r9 = 3) (x : LB v A T U w s) : LB v' A T U w s := by
  obtain ⟨x1, x2, x3, x4, x5⟩ := x
  refine ⟨f.1.kk x1 (by decide), by rw [(f.fs (k := 7) x1 (by decide) (by decide) (Or.inr (by decide))).2.2]; exact x2, f.1.kk x3 (by decide), x4, ?_⟩
  rw [f.lc x3 (by omega) (fun q => by rw [q] at x4; omega) (by omega)]
  exact x5
theorem ES_a (f : FA X v v' T r9 z t0) (x : ES v A U w s) : ES v' A U w s := by
  obtain ⟨x1, x2, x3, x4⟩ := x
  have kk : hK v'.1 (A 2 s) = hK v.1 (A 2 s) := f.1.kk rfl (by omega)
  have q := fun k (hk : k ≤ 2) => f.fs (a := A 2 s) (k := k) rfl x1 (Or.inl hk) (Or.inr (by omega))
  unfold ES
  rw [kk, (q 0 (by decide)).1, (q 1 (by decide)).1, (q 2 (by decide)).2.2]
  exact ⟨x1, x2, x3, x4⟩
theorem FS_a (f : FA X v v' T r9 z t0) (t9 : T r9 = 3) (hz : A 2 s ≠ z) (ht : 7 + A 2 s ≠ t0) (x : FS v A T U w oc cl s) : FS v' A T U w oc cl s := by
  have g : ∀ {n : Nat}, hK v.1 (A 2 s) = n → 30 ≤ n → n ≤ 38 → ∀ k, 5 ≤ k ∧ k ≤ 10 → hI v'.1 (A 2 s) k = hI v.1 (A 2 s) k ∧ hJ v'.1 (A 2 s) k = hJ v.1 (A 2 s) k ∧ hR v'.1 (A 2 s) k = hR v.1 (A 2 s) k := fun e h1 h2 k hk => f.fs e ⟨h1, h2⟩ (Or.inr hk) (Or.inl hz)
  obtain ⟨x0, x3, x1, x2, x4, x5, x7, x9, xa, xb, xn⟩ := x
  refine ⟨fun e => ?_, fun e => ?_, fun e => ?_, fun e => ?_, fun e => ?_, fun e => ?_, fun e => ?_, fun e => ?_, fun e => ?_, fun e => ?_, xn⟩
  · obtain ⟨a, b, c⟩ := x0 e
    have g := g a (by decide) (by decide)
    exact ⟨f.1.kk a (by decide), by rw [(g 5 (by decide)).1]; exact b, by rw [(g 6 (by decide)).2.2]; exact c⟩
  · obtain ⟨a, b, c⟩ := x3 e
    have g := g a (by decide) (by decide)
    exact ⟨f.1.kk a (by decide), by rw [(g 5 (by decide)).1]; exact b, by rw [(g 6 (by decide)).2.2]; exact c⟩
  · obtain ⟨a, b, c, d⟩ := x1 e
    have g := g a (by decide) (by decide)
    exact ⟨f.1.kk a (by decide), by rw [(g 5 (by decide)).2.2]; exact TXn_a f b, by rw [(g 6 (by decide)).2.2]; exact c, by rw [(g 7 (by decide)).2.2]; exact d⟩
  · obtain ⟨a, b, c⟩ := x2 e
    have g := g a (by decide) (by decide)
    exact ⟨f.1.kk a (by decide), by rw [(g 5 (by decide)).2.2]; exact b, by rw [(g 6 (by decide)).2.2]; exact c⟩
  · obtain ⟨a, b, c⟩ := x4 e
    have g := g a (by decide) (by decide)
    exact ⟨f.1.kk a (by decide), by rw [(g 5 (by decide)).2.2]; exact b, by rw [(g 6 (by decide)).2.2]; exact c⟩
  · obtain ⟨a, b, c⟩ := x5 e
    have g := g a (by decide) (by decide)
    exact ⟨f.1.kk a (by decide), by rw [(g 5 (by decide)).1]; exact b, by rw [(g 6 (by decide)).2.2]; exact c⟩
  · obtain ⟨bt, t, a1, a2, a3, a4, a5⟩ := x7 e
    have g := g a1 (by decide) (by decide)
    exact ⟨bt, t, f.1.kk a1 (by decide), by rw [(g 5 (by decide)).2.2]; exact a2, by rw [(g 6 (by decide)).2.2]; exact a3, f.1.kk a4 (by decide), by rw [ls_a f t9 a4 t]; exact a5⟩
  · obtain ⟨a, b, c, l5, l6, l7, l9, ⟨t5, t6, t7, t9'⟩, ⟨k5, k6, k7, k9⟩, ⟨r5, r6, r7, r9'⟩, ⟨n5, n6⟩, q5, q6, q7, q9⟩ := x9 e
    have g := g a (by decide) (by decide)
    refine ⟨f.1.kk a (by decide), by rw [(g 8 (by decide)).2.2]; exact b, by rw [(g 10 (by decide)).2.2]; exact c, l5, l6, l7, l9, ⟨t5, t6, t7, t9'⟩, ⟨f.1.kk k5 (by decide), f.1.kk k6 (by decide), f.1.kk k7 (by decide), f.1.kk k9 (by decide)⟩, ⟨by rw [(g 5 (by decide)).2.2]; exact r5, by rw [(g 6 (by decide)).2.2]; exact r6, by rw [(g 7 (by decide)).2.2]; exact r7, by rw [(g 9 (by decide)).2.2]; exact r9'⟩, ?_⟩
    rw [ls_a f t9 k5 t5, ls_a f t9 k6 t6, f.lc k7 (by omega) (fun q => by rw [q] at t7; omega) (fun _ q => ht (by rw [← t7]; exact q)), ls_a f t9 k9 t9']
    refine ⟨⟨n5, n6⟩, fun i i0 i1 => TXn_a f (q5 i i0 i1), fun i i0 i1 => ?_, q7, q9⟩
    obtain ⟨e, e1, e2⟩ := q6 i i0 i1
    exact ⟨e, e1, isIg_a f e2⟩
  · obtain ⟨a, b, l, c, d, y⟩ := xa e
    have g := g a (by decide) (by decide)
    exact ⟨f.1.kk a (by decide), by rw [(g 5 (by decide)).2.2]; exact b, l, by rw [(g 6 (by decide)).2.2]; exact c, d, NL_a f t9 d y⟩
  · obtain ⟨a, b⟩ := xb e
    have g := g a (by decide) (by decide)
    exact ⟨f.1.kk a (by decide), by rw [(g 5 (by decide)).2.2]; exact b⟩
theorem MF_a (f : FA X v v' T r9 z t0) (t9 : T r9 = 3) {ov ov' : Int → Option Nat} (x : MF v A T U w ov m) (h6 : hR v'.1 (A 1 m) 6 = ov' m) : MF v' A T U w ov' m := by
  obtain ⟨m1, m2, m3, m4, m5, m6, m7, ⟨l, m8, m9, ma⟩, mb⟩ := x
  have q := fun k (hk : k ≠ 6) => f.fb (k := k) m1 (Or.inr (Or.inr ⟨rfl, hk⟩))
  unfold MF
  rw [(q 1 (by decide)).1, (q 2 (by decide)).1, (q 3 (by decide)).1, (q 4 (by decide)).2.2, (q 5 (by decide)).1, (q 7 (by decide)).2.2, (q 8 (by decide)).2.2]
  exact ⟨f.1.kk m1 (by decide), m2, m3, m4, m5, fun z => ⟨TXn_a f (m6 z).1, (m6 z).2⟩, h6, ⟨l, m8, m9, NL_a f t9 m9 ma⟩, mb⟩
end FAS
/-- a unit that was read; oc, cl, ov: what calls, tries and methods that are over others mean -/
def GU (R : Nat → Nat) (A : Nat → Int → Nat) (T : Nat → Nat) (w p0 : Int) (v : vT) (U : tSt) (oc : Int → Option Nat) (cl : Int → List (Option Nat)) (ov : Int → Option Nat) : Prop :=
  (RK v (R 3) (R 4) U w (A 0) ∧ hR v.1 (R 3) 5 = some (R 9) ∧ (hR v.1 (R 3) 4 = some (R 8) ∧ hK v.1 (R 8) = 4 ∧ vLs v (R 8) = rowL (A 2) (w * 120) (U 19 w))) ∧
  (hR v.1 (R 3) 1 = some (R 5) ∧ KMp v (R 5) (A 0) U w p0 ∧ KL v (R 5) (U 3 w) ∧ p0 ≤ 2001) ∧ MT R A T w v U ov ∧ ((TG v T ∧ TZ v T) ∧ T (R 8) = 3 ∧ T (R 9) = 3 ∧ R 8 ≠ R 9 ∧ hK v.1 (R 9) = 4) ∧
  (∀ s, As w U s → ES v A U w s ∧ FS v A T U w oc cl s) ∧ (∀ b, Ab w U b → FB v A T U w b) ∧ (∀ s, As w U s → U 20 s = 5 ∨ U 20 s = 6 → LB v A T U w s) ∧
  (∀ c, As w U (c / 4) → c % 4 < U 33 (c / 4) → CF v A T U w c ∧ hI v.1 (A 4 c) 4 = bI (isS U w c = true) ∧ hR v.1 (A 4 c) 3 = some (A 3 (U 34 c))) ∧
  (∀ c d, As w U (c / 4) → c % 4 < U 33 (c / 4) → As w U (d / 4) → d % 4 < U 33 (d / 4) → A 4 c = A 4 d → c = d)
section GUS
variable {X : Nat → Nat → Prop} {R : Nat → Nat} {v v' : vT} {A : Nat → Int → Nat} {T : Nat → Nat} {U : tSt} {w p0 : Int} {oc oc' ov ov' : Int → Option Nat} {cl cl' : Int → List (Option Nat)} {z t0 : Nat}
theorem GU_a (g : GU R A T w p0 v U oc cl ov) (f : Fw X v v') (hx : ∀ a k, X a k → a < hN v.1 → XA v T (R 9) z t0 a k) (hs : ∀ s, As w U s → (A 2 s ≠ z ∧ 7 + A 2 s ≠ t0 ∧ oc' s = oc s ∧ cl' s = cl s) ∨ FS v' A T U w oc' cl' s) (ho : ∀ m, 0 ≤ m → m < U 9 w → hR v'.1 (A 1 m) 6 = ov' m) : GU R A T w p0 v' U oc' cl' ov' := by
  obtain ⟨⟨g1, g2, g3, g4, g5⟩, ⟨g6, g7, g8, g9⟩, ⟨⟨m1, m2, m3⟩, ⟨m4, m5, m6⟩, ⟨t4, t6, mz⟩, m7⟩, ⟨ga, gb, gc, gd, ge⟩, gf, gg, gh, gi, gj⟩ := g
  have fa : FA X v v' T (R 9) z t0 := ⟨f, hx, ga.1, ge⟩
  have r3 := fun k => fa.ff (k := k) g1.1 (by decide)
  have n9 : ∀ {l k : Nat}, T l = k → k ≠ 3 → l ≠ R 9 := fun h hk e => by rw [e, gc] at h; omega
  refine ⟨⟨?_, by rw [(r3 5).2.2]; exact g2, by rw [(r3 4).2.2]; exact g3, f.kk g4 (by decide), ?_⟩, ⟨by rw [(r3 1).2.2]; exact g6, KMp_fw f g7 (fa.cc g7.2.2.1 (by decide)), KL_fw f g7.2.2.1 (fa.cc g7.2.2.1 (by decide)) g8, g9⟩, ⟨⟨by rw [(r3 2).2.2]; exact m1, f.kk m2 (by decide), ?_⟩, ⟨by rw [(r3 3).2.2]; exact m4, ⟨f.kk m5.1 (by decide), fun t ok => ?_⟩, KL_fw f m5.1 (fa.cc m5.1 (by decide)) m6⟩, ⟨t4, t6, mz⟩, fun m h0 h1 => MF_a fa gc (m7 m h0 h1) (ho m h0 h1)⟩, ⟨?_, gb, gc, gd, f.kk ge (by decide)⟩, fun s h => ⟨ES_a fa (gf s h).1, ?_⟩, fun b h => FB_a fa gc (gg b h), fun s h h2 => LB_a fa gc (gh s h h2), fun c hc hr => ?_, gj⟩
  · exact RK_mv g1 f (fa.cc g1.1 (by decide)) (fun y => by
      rcases hx _ _ y (hK_lt g1.2.2.1 (by decide)) with (y | y | y | y | y | y | y | y) | y | y | y
      · have := g1.2.2.1; omega
      · have := g1.2.2.1; omega
      · have := g1.2.2.1; omega
      · have := g1.2.2.1; omega
      · have := g1.2.2.1; omega
      · have := g1.2.2.1; omega
      · exact n9 t4 (by decide) y.1
      · omega
      · have := g1.2.2.1; omega
      · omega
      · have := g1.2.2.1; omega) (fun a k y e => fa.cc e (by decide) y) rfl (fun _ _ _ => rfl) (fun _ _ _ => rfl)
  · rw [fa.lc g4 (by omega) gd (by omega)]
    exact g5
  · rw [fa.lc m2 (by omega) (n9 t6 (by decide)) (by omega)]
    exact m3
  · rw [(f.cc (hK_lt m5.1 (by decide)) (fa.cc m5.1 (by decide))).2.1]
    exact m5.2 t ok
  · exact TG_fw f ga
  · rcases hs s h with ⟨h1, h2, h3, h4⟩ | h1
    · have x := FS_a fa gc h1 h2 (gf s h).2
      unfold FS at x ⊢
      rw [h3, h4]
      exact x
    · exact h1
  · obtain ⟨c1, c2, c3⟩ := gi c hc hr
    rw [(fa.fb (k := 4) c1.1 (by decide)).1, (fa.fb (k := 3) c1.1 (by decide)).2.2]
    exact ⟨CF_a fa gc c1, c2, c3⟩
end GUS
