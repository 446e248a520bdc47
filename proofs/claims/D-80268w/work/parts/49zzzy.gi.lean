/-! COMPONENT, 21: a unit in the making *-/
/-- the statements of a sort, by number -/
def stL (U : tSt) (w : Int) (p : Int → Bool) : List Int := ((List.range (U 19 w).toNat).map (fun (i : Nat) => w * 120 + (i : Int))).filter p
/-- a text of a number -/
def TXn (v : vT) (o : Option Nat) (x : Int) : Prop := ∃ a, o = some a ∧ hK v.1 a = 10 ∧ wN (vTx v a) = x ∧ okK (vTx v a)
/-- what reading a block may change of what was there -/
def Xb (rd wr : Nat) (T : Nat → Nat) (a k : Nat) : Prop :=
  (a = rd ∧ (3 ≤ k ∧ k ≤ 6 ∨ k = 9 ∨ 14 ≤ k ∧ k ≤ 16)) ∨ (a = wr ∧ k = 6) ∨ (k = 99 ∧ (T a = 2 ∨ T a = 3)) ∨ (k = 4 ∧ T a = 5)
/-- a statement in its final form; oc, cl: what calls and tries mean (found when the text was read) -/
def FS (v : vT) (A : Nat → Int → Nat) (T : Nat → Nat) (U : tSt) (w : Int) (oc : Int → Option Nat) (cl : Int → List (Option Nat)) (s : Int) : Prop :=
  (U 20 s = 0 ∨ U 20 s = 8 → hK v.1 (A 2 s) = 30 ∧ hI v.1 (A 2 s) 5 = iI (U 20 s) ∧ hR v.1 (A 2 s) 6 = none) ∧
  (U 20 s = 3 → hK v.1 (A 2 s) = 30 ∧ hI v.1 (A 2 s) 5 = iI 3 ∧ hR v.1 (A 2 s) 6 = optA (A 4) (pO U (U 25 s) (U 22 s)).1) ∧
  (U 20 s = 1 → hK v.1 (A 2 s) = 31 ∧ TXn v (hR v.1 (A 2 s) 5) (U 25 s) ∧ hR v.1 (A 2 s) 6 = oc s ∧ hR v.1 (A 2 s) 7 = optA (A 3) (U 27 s)) ∧
  (U 20 s = 2 → hK v.1 (A 2 s) = 32 ∧ hR v.1 (A 2 s) 5 = optA (A 4) (pO U (U 25 s) (U 22 s)).1 ∧ hR v.1 (A 2 s) 6 = if (pO U (U 25 s) (U 22 s)).1 = -1 then optA (A 0) (kO U w (U 25 s) (U 26 s)) else none) ∧
  (U 20 s = 4 → hK v.1 (A 2 s) = 33 ∧ hR v.1 (A 2 s) 5 = some (A 3 (U 27 s)) ∧ hR v.1 (A 2 s) 6 = optA (A 3) (U 28 s)) ∧
  (U 20 s = 5 ∨ U 20 s = 6 → hK v.1 (A 2 s) = 34 ∧ hI v.1 (A 2 s) 5 = bI (U 20 s = 5) ∧ hR v.1 (A 2 s) 6 = some (A 3 (U 27 s))) ∧
  (U 20 s = 7 → ∃ bt, T bt = 1 ∧ BK v (A 2 s) bt (optA (A 2) (tgt U s)) ((tTr U (U 22 s + 2).toNat (U 22 s)).map (fun k => some (A 2 k)))) ∧
  (U 20 s = 9 → hK v.1 (A 2 s) = 36 ∧ hR v.1 (A 2 s) 8 = some (A 3 (U 27 s)) ∧ hR v.1 (A 2 s) 10 = optA (A 3) (U 29 s) ∧ ∃ l5 l6 l7 l9, (T l5 = 1 ∧ T l6 = 1 ∧ T l7 = 7 + A 2 s ∧ T l9 = 1) ∧ (hK v.1 l5 = 4 ∧ hK v.1 l6 = 4 ∧ hK v.1 l7 = 4 ∧ hK v.1 l9 = 4) ∧
    (hR v.1 (A 2 s) 5 = some l5 ∧ hR v.1 (A 2 s) 6 = some l6 ∧ hR v.1 (A 2 s) 7 = some l7 ∧ hR v.1 (A 2 s) 9 = some l9) ∧ ((vLs v l5).length = (U 30 s).toNat ∧ (vLs v l6).length = (U 30 s).toNat) ∧
    (∀ i, 0 ≤ i → i < U 30 s → TXn v ((vLs v l5).getD i.toNat none) (U 31 (4 * s + i))) ∧ (∀ i, 0 ≤ i → i < U 30 s → ∃ e, (vLs v l6).getD i.toNat none = some e ∧ isIg v e (U 32 (4 * s + i))) ∧ vLs v l7 = cl s ∧ vLs v l9 = rowL (A 4) (4 * s) (U 33 s)) ∧
  (U 20 s = 10 → hK v.1 (A 2 s) = 37 ∧ hR v.1 (A 2 s) 5 = some (A 3 (U 27 s)) ∧ ∃ l, hR v.1 (A 2 s) 6 = some l ∧ T l = 1 ∧ NL v (A 0) l (U 30 s) (fun i => kO U w (U 31 (4 * s + i)) (U 32 (4 * s + i))) (fun i => U 32 (4 * s + i))) ∧
  (U 20 s = 11 → hK v.1 (A 2 s) = 38 ∧ hR v.1 (A 2 s) 5 = some (A 3 (U 27 s))) ∧
  (U 20 s = 4 ∨ U 20 s = 5 ∨ U 20 s = 6 ∨ U 20 s = 9 ∨ U 20 s = 10 ∨ U 20 s = 11 → U 27 s ≠ -1)
/-- a block in its final form -/
def FB (v : vT) (A : Nat → Int → Nat) (T : Nat → Nat) (U : tSt) (w b : Int) : Prop :=
  hK v.1 (A 3 b) = 21 ∧ hI v.1 (A 3 b) 1 = iI (U 44 b) ∧ ∃ l, hR v.1 (A 3 b) 0 = some l ∧ hK v.1 l = 4 ∧ T l = 1 ∧ vLs v l = (stL U w (fun s => decide (U 22 s = b))).map (fun s => some (A 2 s))
/-- a catch whose body was begun -/
def CF (v : vT) (A : Nat → Int → Nat) (T : Nat → Nat) (U : tSt) (w c : Int) : Prop :=
  hK v.1 (A 4 c) = 22 ∧ T (A 4 c) = 5 ∧ hR v.1 (A 4 c) 0 = some (A 2 (c / 4)) ∧ TXn v (hR v.1 (A 4 c) 2) (U 35 c) ∧ ∃ l, hR v.1 (A 4 c) 1 = some l ∧ T l = 1 ∧ NL v (A 0) l (U 37 c) (cK U w c) (fun i => U 39 (4 * c + i))
/-- a loop and its breaks -/
def LB (v : vT) (A : Nat → Int → Nat) (T : Nat → Nat) (U : tSt) (w s : Int) : Prop :=
  hK v.1 (A 2 s) = 34 ∧ hR v.1 (A 2 s) 7 = some (A 5 s) ∧ hK v.1 (A 5 s) = 4 ∧ T (A 5 s) = 2 ∧ vLs v (A 5 s) = (stL U w (fun k => decide (U 20 k = 7) && decide (tgt U k = s))).map (fun k => some (A 2 k))
section GIS
variable {rd wr : Nat} {X : Nat → Nat → Prop} {v v' : vT} {A : Nat → Int → Nat} {T : Nat → Nat} {U : tSt} {w s b c : Int} {oc : Int → Option Nat} {cl : Int → List (Option Nat)}
/-- a frame that leaves final forms alone -/
def XG (v : vT) (T : Nat → Nat) (X : Nat → Nat → Prop) : Prop := ∀ a k, X a k → hK v.1 a = 2 ∨ hK v.1 a = 3 ∨ (k = 99 ∧ 2 ≤ T a ∧ T a < 7) ∨ (k = 4 ∧ T a = 5)
theorem Xb_k (hr : hK v.1 rd = 2) (hw : hK v.1 wr = 3) : XG v T (Xb rd wr T) := by
  intro a k x
  rcases x with x | x | x | x
  · exact Or.inl (by rw [x.1]; exact hr)
  · exact Or.inr (Or.inl (by rw [x.1]; exact hw))
  · exact Or.inr (Or.inr (Or.inl ⟨x.1, by have := x.2; omega⟩))
  · exact Or.inr (Or.inr (Or.inr x))
theorem TXn_fw {o : Option Nat} {x : Int} (f : Fw X v v') (hx : XG v T X) (ht : ∀ a, hK v.1 a = 10 → T a = 0) (t : TXn v o x) : TXn v' o x := by
  obtain ⟨a, a1, a2, a3, a4⟩ := t
  have tx : vTx v' a = vTx v a := (f.cc (hK_lt a2 (by decide)) (fun z => by have := hx _ _ z; have := ht a a2; omega)).2.2.2
  exact ⟨a, a1, f.kk a2 (by decide), by rw [tx]; exact a3, by rw [tx]; exact a4⟩
/-- tags: what is no list or catch has none -/
def TG (v : vT) (T : Nat → Nat) : Prop := ∀ a, hK v.1 a ≠ 0 → hK v.1 a ≠ 4 → hK v.1 a ≠ 22 → T a = 0
/-- what is not there yet has no tag -/
def TZ (v : vT) (T : Nat → Nat) : Prop := ∀ a, hN v.1 ≤ a → T a = 0
theorem ff_b (f : Fw X v v') (hx : XG v T X) (tg : TG v T) {a n k : Nat} (e : hK v.1 a = n) (h1 : n ≠ 0) (h2 : n ≠ 2) (h3 : n ≠ 3) (h4 : n ≠ 4) (h5 : n ≠ 22) : hI v'.1 a k = hI v.1 a k ∧ hJ v'.1 a k = hJ v.1 a k ∧ hR v'.1 a k = hR v.1 a k := by
  refine f.ff (hK_lt e h1) (fun z => ?_)
  have := hx _ _ z
  have := tg a (by rw [e]; exact h1) (by rw [e]; exact h4) (by rw [e]; exact h5)
  omega
theorem ls_b (f : Fw X v v') (hx : XG v T X) {l : Nat} (e : hK v.1 l = 4) (t : T l = 1) : vLs v' l = vLs v l := by
  refine (f.cc (hK_lt e (by decide)) (fun z => ?_)).1
  have := hx _ _ z
  omega
theorem ls_b7 (f : Fw X v v') (hx : XG v T X) {l : Nat} (e : hK v.1 l = 4) (t : 7 ≤ T l) : vLs v' l = vLs v l := by
  refine (f.cc (hK_lt e (by decide)) (fun z => ?_)).1
  have := hx _ _ z
  omega
theorem NL_b {l : Nat} {n : Int} {kf pf : Int → Int} (f : Fw X v v') (hx : XG v T X) (tg : TG v T) (t : T l = 1) (x : NL v (A 0) l n kf pf) : NL v' (A 0) l n kf pf := by
  refine NL_fw f x (fun z => ?_) (fun a k z hk e => ?_)
  · have := hx _ _ z
    have := x.1
    omega
  · have := hx _ _ z
    have := tg a (by rw [e]; decide) (by rw [e]; decide) (by rw [e]; decide)
    omega
theorem FB_fw (f : Fw X v v') (hx : XG v T X) (tg : TG v T) (x : FB v A T U w b) : FB v' A T U w b := by
  obtain ⟨x1, x2, l, x3, x4, x5, x6⟩ := x
  have g := fun k => ff_b f hx tg (k := k) x1 (by decide) (by decide) (by decide) (by decide) (by decide)
  exact ⟨f.kk x1 (by decide), by rw [(g 1).1]; exact x2, l, by rw [(g 0).2.2]; exact x3, f.kk x4 (by decide), x5, by rw [ls_b f hx x4 x5]; exact x6⟩
theorem FS_fw (f : Fw X v v') (hx : XG v T X) (tg : TG v T) (x : FS v A T U w oc cl s) : FS v' A T U w oc cl s := by
  have ht : ∀ a, hK v.1 a = 10 → T a = 0 := fun a e => tg a (by rw [e]; decide) (by rw [e]; decide) (by rw [e]; decide)
  have g : ∀ {n : Nat}, hK v.1 (A 2 s) = n → 30 ≤ n → n ≤ 38 → ∀ k, hI v'.1 (A 2 s) k = hI v.1 (A 2 s) k ∧ hJ v'.1 (A 2 s) k = hJ v.1 (A 2 s) k ∧ hR v'.1 (A 2 s) k = hR v.1 (A 2 s) k := fun e h1 h2 k => ff_b f hx tg e (by omega) (by omega) (by omega) (by omega) (by omega)
  obtain ⟨x0, x3, x1, x2, x4, x5, x7, x9, xa, xb, xn⟩ := x
  refine ⟨fun e => ?_, fun e => ?_, fun e => ?_, fun e => ?_, fun e => ?_, fun e => ?_, fun e => ?_, fun e => ?_, fun e => ?_, fun e => ?_, xn⟩
  · obtain ⟨a, b, c⟩ := x0 e
    have g := g a (by decide) (by decide)
    exact ⟨f.kk a (by decide), by rw [(g 5).1]; exact b, by rw [(g 6).2.2]; exact c⟩
  · obtain ⟨a, b, c⟩ := x3 e
    have g := g a (by decide) (by decide)
    exact ⟨f.kk a (by decide), by rw [(g 5).1]; exact b, by rw [(g 6).2.2]; exact c⟩
  · obtain ⟨a, b, c, d⟩ := x1 e
    have g := g a (by decide) (by decide)
    exact ⟨f.kk a (by decide), by rw [(g 5).2.2]; exact TXn_fw f hx ht b, by rw [(g 6).2.2]; exact c, by rw [(g 7).2.2]; exact d⟩
  · obtain ⟨a, b, c⟩ := x2 e
    have g := g a (by decide) (by decide)
    exact ⟨f.kk a (by decide), by rw [(g 5).2.2]; exact b, by rw [(g 6).2.2]; exact c⟩
  · obtain ⟨a, b, c⟩ := x4 e
    have g := g a (by decide) (by decide)
    exact ⟨f.kk a (by decide), by rw [(g 5).2.2]; exact b, by rw [(g 6).2.2]; exact c⟩
  · obtain ⟨a, b, c⟩ := x5 e
    have g := g a (by decide) (by decide)
    exact ⟨f.kk a (by decide), by rw [(g 5).1]; exact b, by rw [(g 6).2.2]; exact c⟩
  · obtain ⟨bt, t, a1, a2, a3, a4, a5⟩ := x7 e
    have g := g a1 (by decide) (by decide)
    exact ⟨bt, t, f.kk a1 (by decide), by rw [(g 5).2.2]; exact a2, by rw [(g 6).2.2]; exact a3, f.kk a4 (by decide), by rw [ls_b f hx a4 t]; exact a5⟩
  · obtain ⟨a, b, c, l5, l6, l7, l9, ⟨t5, t6, t7, t9⟩, ⟨k5, k6, k7, k9⟩, ⟨r5, r6, r7, r9⟩, ⟨n5, n6⟩, q5, q6, q7, q9⟩ := x9 e
    have g := g a (by decide) (by decide)
    refine ⟨f.kk a (by decide), by rw [(g 8).2.2]; exact b, by rw [(g 10).2.2]; exact c, l5, l6, l7, l9, ⟨t5, t6, t7, t9⟩, ⟨f.kk k5 (by decide), f.kk k6 (by decide), f.kk k7 (by decide), f.kk k9 (by decide)⟩, ⟨by rw [(g 5).2.2]; exact r5, by rw [(g 6).2.2]; exact r6, by rw [(g 7).2.2]; exact r7, by rw [(g 9).2.2]; exact r9⟩, ?_⟩
    rw [ls_b f hx k5 t5, ls_b f hx k6 t6, ls_b7 f hx k7 (by omega), ls_b f hx k9 t9]
    refine ⟨⟨n5, n6⟩, fun i i0 i1 => TXn_fw f hx ht (q5 i i0 i1), fun i i0 i1 => ?_, q7, q9⟩
    obtain ⟨e, e1, e2, e3⟩ := q6 i i0 i1
    refine ⟨e, e1, ?_, ?_⟩
    · rcases e2 with e2 | e2
      · exact Or.inl (f.kk e2 (by decide))
      · exact Or.inr (f.kk e2 (by decide))
    · rcases e2 with e2 | e2
      · rw [(ff_b f hx tg e2 (by decide) (by decide) (by decide) (by decide) (by decide)).1]
        exact e3
      · rw [(ff_b f hx tg e2 (by decide) (by decide) (by decide) (by decide) (by decide)).1]
        exact e3
  · obtain ⟨a, b, l, c, d, y⟩ := xa e
    have g := g a (by decide) (by decide)
    exact ⟨f.kk a (by decide), by rw [(g 5).2.2]; exact b, l, by rw [(g 6).2.2]; exact c, d, NL_b f hx tg d y⟩
  · obtain ⟨a, b⟩ := xb e
    have g := g a (by decide) (by decide)
    exact ⟨f.kk a (by decide), by rw [(g 5).2.2]; exact b⟩
theorem CF_fw (f : Fw X v v') (hx : XG v T X) (tg : TG v T) (x : CF v A T U w c) : CF v' A T U w c := by
  have ht : ∀ a, hK v.1 a = 10 → T a = 0 := fun a e => tg a (by rw [e]; decide) (by rw [e]; decide) (by rw [e]; decide)
  obtain ⟨x1, x2, x3, x4, l, x5, x6, x7⟩ := x
  have g := fun k (hk : k ≠ 4) (hk9 : k ≠ 99) => f.ff (k := k) (hK_lt x1 (by decide)) (fun z => by have := hx _ _ z; omega)
  exact ⟨f.kk x1 (by decide), x2, by rw [(g 0 (by decide) (by decide)).2.2]; exact x3, by rw [(g 2 (by decide) (by decide)).2.2]; exact TXn_fw f hx ht x4, l, by rw [(g 1 (by decide) (by decide)).2.2]; exact x5, x6, NL_b f hx tg x6 x7⟩
end GIS
