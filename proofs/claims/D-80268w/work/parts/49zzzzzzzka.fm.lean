/-! COMPONENT, 90b: final forms while maps change too *-/
/-- a frame that leaves final forms alone, but for the cell z of a statement -/
def XM (v : vT) (T : Nat → Nat) (z : Nat) (X : Nat → Nat → Prop) : Prop := ∀ a k, X a k → a < hN v.1 → (hK v.1 a = 2 ∨ hK v.1 a = 6 ∨ hK v.1 a = 18) ∨ hK v.1 a = 3 ∨ (k = 99 ∧ 2 ≤ T a ∧ T a < 7) ∨ ((k = 3 ∨ k = 4) ∧ T a = 5) ∨ (a = z ∧ 30 ≤ hK v.1 a ∧ hK v.1 a ≤ 38)
section FMS
variable {z : Nat} {X : Nat → Nat → Prop} {v v' : vT} {A : Nat → Int → Nat} {T : Nat → Nat} {U : tSt} {w s b c : Int} {oc : Int → Option Nat} {cl : Int → List (Option Nat)}
theorem cc_m (hx : XM v T z X) (tg : TG v T) {a n : Nat} (e : hK v.1 a = n) (h1 : n ≠ 0) (h2 : n ≠ 2 ∧ n ≠ 6 ∧ n ≠ 18) (h3 : n ≠ 3) (h4 : n = 4 → T a ≤ 1 ∨ 7 ≤ T a) (h5 : n ≠ 22) (h6 : a ≠ z ∨ n < 30) {k : Nat} : ¬ X a k := by
  intro y
  have t0 : n ≠ 4 → T a = 0 := fun h4 => tg a (by rw [e]; exact h1) (by rw [e]; exact h4) (by rw [e]; exact h5)
  have t1 : T a ≤ 1 ∨ 7 ≤ T a := by
    by_cases q : n = 4
    · exact h4 q
    · rw [t0 q]
      decide
  rcases hx _ _ y (hK_lt e h1) with q | q | q | q | q
  · omega
  · omega
  · omega
  · omega
  · rcases h6 with h6 | h6
    · exact h6 q.1
    · omega
theorem TXn_fm {o : Option Nat} {x : Int} (f : Fw X v v') (hx : XM v T z X) (tg : TG v T) (t : TXn v o x) : TXn v' o x := by
  obtain ⟨a, a1, a2, a3, a4⟩ := t
  have tx : vTx v' a = vTx v a := (f.cc (hK_lt a2 (by decide)) (cc_m hx tg a2 (by decide) (by decide) (by decide) (fun q => absurd q (by decide)) (by decide) (Or.inr (by decide)))).2.2.2
  exact ⟨a, a1, f.kk a2 (by decide), by rw [tx]; exact a3, by rw [tx]; exact a4⟩
theorem ff_m (f : Fw X v v') (hx : XM v T z X) (tg : TG v T) {a n k : Nat} (e : hK v.1 a = n) (h1 : n ≠ 0) (h2 : n ≠ 2 ∧ n ≠ 6 ∧ n ≠ 18) (h3 : n ≠ 3) (h4 : n ≠ 4) (h5 : n ≠ 22) (h6 : a ≠ z ∨ n < 30) : hI v'.1 a k = hI v.1 a k ∧ hJ v'.1 a k = hJ v.1 a k ∧ hR v'.1 a k = hR v.1 a k :=
  f.ff (hK_lt e h1) (cc_m hx tg e h1 h2 h3 (fun q => absurd q h4) h5 h6)
theorem ls_m (f : Fw X v v') (hx : XM v T z X) (tg : TG v T) {l : Nat} (e : hK v.1 l = 4) (t : T l = 1) : vLs v' l = vLs v l :=
  (f.cc (hK_lt e (by decide)) (cc_m hx tg e (by decide) (by decide) (by decide) (fun _ => by omega) (by decide) (Or.inr (by decide)))).1
theorem ls_m7 (f : Fw X v v') (hx : XM v T z X) (tg : TG v T) {l : Nat} (e : hK v.1 l = 4) (t : 7 ≤ T l) : vLs v' l = vLs v l :=
  (f.cc (hK_lt e (by decide)) (cc_m hx tg e (by decide) (by decide) (by decide) (fun _ => Or.inr t) (by decide) (Or.inr (by decide)))).1
theorem NL_m {l : Nat} {n : Int} {kf pf : Int → Int} (f : Fw X v v') (hx : XM v T z X) (tg : TG v T) (t : T l = 1) (x : NL v (A 0) l n kf pf) : NL v' (A 0) l n kf pf :=
  NL_fw f x (cc_m hx tg x.1 (by decide) (by decide) (by decide) (fun _ => by omega) (by decide) (Or.inr (by decide))) (fun a k y _ e => cc_m hx tg e (by decide) (by decide) (by decide) (fun q => absurd q (by decide)) (by decide) (Or.inr (by decide)) y)
theorem FB_fm (f : Fw X v v') (hx : XM v T z X) (tg : TG v T) (x : FB v A T U w b) : FB v' A T U w b := by
  obtain ⟨x1, x2, l, x3, x4, x5, x6⟩ := x
  have g := fun k => ff_m f hx tg (k := k) x1 (by decide) (by decide) (by decide) (by decide) (by decide) (Or.inr (by decide))
  exact ⟨f.kk x1 (by decide), by rw [(g 1).1]; exact x2, l, by rw [(g 0).2.2]; exact x3, f.kk x4 (by decide), x5, by rw [ls_m f hx tg x4 x5]; exact x6⟩
theorem FS_fm (f : Fw X v v') (hx : XM v T z X) (tg : TG v T) (hz : A 2 s ≠ z) (x : FS v A T U w oc cl s) : FS v' A T U w oc cl s := by
  have g : ∀ {n : Nat}, hK v.1 (A 2 s) = n → 30 ≤ n → n ≤ 38 → ∀ k, hI v'.1 (A 2 s) k = hI v.1 (A 2 s) k ∧ hJ v'.1 (A 2 s) k = hJ v.1 (A 2 s) k ∧ hR v'.1 (A 2 s) k = hR v.1 (A 2 s) k := fun e h1 h2 k => ff_m f hx tg e (by omega) (by omega) (by omega) (by omega) (by omega) (Or.inl hz)
  obtain ⟨x0, x3, x1, x2, x4, x5, x7, x9, xa, xb, xn⟩ := x
  refine ⟨fun e => ?_, fun e => ?_, fun e => ?_, fun e => ?_, fun e => ?_, fun e => ?_, fun e => ?_, fun e => ?_, fun e => ?_, fun e => ?_, xn⟩
  · obtain ⟨a, b, c⟩ := x0 e
    have g := g a (by decide) (by decide)
    exact ⟨f.kk a (by decide), by rw [(g 5).1]; exact b, by rw [(g 6).2.2]; exact c⟩
  · obtain ⟨a, b, c⟩ := x3 e
    have g := g a (by decide) (by decide)
    exact ⟨f.kk a (by decide), by rw [(g 5).1]; exact b, by rw [(g 6).2.2]; exact c⟩
  · obtain ⟨a, b, c, d⟩ := x1 e
    have g := g a (by decide) (by decide)
    exact ⟨f.kk a (by decide), by rw [(g 5).2.2]; exact TXn_fm f hx tg b, by rw [(g 6).2.2]; exact c, by rw [(g 7).2.2]; exact d⟩
  · obtain ⟨a, b, c⟩ := x2 e
    have g := g a (by decide) (by decide)
    exact ⟨f.kk a (by decide), by rw [(g 5).2.2]; exact b, by rw [(g 6).2.2]; exact c⟩
  · obtain ⟨a, b, c⟩ := x4 e
    have g := g a (by decide) (by decide)
    exact ⟨f.kk a (by decide), by rw [(g 5).2.2]; exact b, by rw [(g 6).2.2]; exact c⟩
  · obtain ⟨a, b, c⟩ := x5 e
    have g := g a (by decide) (by decide)
    exact ⟨f.kk a (by decide), by rw [(g 5).1]; exact b, by rw [(g 6).2.2]; exact c⟩
  · obtain ⟨bt, t, a1, a2, a3, a4, a5⟩ := x7 e
    have g := g a1 (by decide) (by decide)
    exact ⟨bt, t, f.kk a1 (by decide), by rw [(g 5).2.2]; exact a2, by rw [(g 6).2.2]; exact a3, f.kk a4 (by decide), by rw [ls_m f hx tg a4 t]; exact a5⟩
  · obtain ⟨a, b, c, l5, l6, l7, l9, ⟨t5, t6, t7, t9⟩, ⟨k5, k6, k7, k9⟩, ⟨r5, r6, r7, r9⟩, ⟨n5, n6⟩, q5, q6, q7, q9⟩ := x9 e
    have g := g a (by decide) (by decide)
    refine ⟨f.kk a (by decide), by rw [(g 8).2.2]; exact b, by rw [(g 10).2.2]; exact c, l5, l6, l7, l9, ⟨t5, t6, t7, t9⟩, ⟨f.kk k5 (by decide), f.kk k6 (by decide), f.kk k7 (by decide), f.kk k9 (by decide)⟩, ⟨by rw [(g 5).2.2]; exact r5, by rw [(g 6).2.2]; exact r6, by rw [(g 7).2.2]; exact r7, by rw [(g 9).2.2]; exact r9⟩, ?_⟩
    rw [ls_m f hx tg k5 t5, ls_m f hx tg k6 t6, ls_m7 f hx tg k7 (by omega), ls_m f hx tg k9 t9]
    refine ⟨⟨n5, n6⟩, fun i i0 i1 => TXn_fm f hx tg (q5 i i0 i1), fun i i0 i1 => ?_, q7, q9⟩
    obtain ⟨e, e1, e2, e3⟩ := q6 i i0 i1
    refine ⟨e, e1, ?_, ?_⟩
    · rcases e2 with e2 | e2
      · exact Or.inl (f.kk e2 (by decide))
      · exact Or.inr (f.kk e2 (by decide))
    · rcases e2 with e2 | e2
      · rw [(ff_m f hx tg e2 (by decide) (by decide) (by decide) (by decide) (by decide) (Or.inr (by decide))).1]
        exact e3
      · rw [(ff_m f hx tg e2 (by decide) (by decide) (by decide) (by decide) (by decide) (Or.inr (by decide))).1]
        exact e3
  · obtain ⟨a, b, l, c, d, y⟩ := xa e
    have g := g a (by decide) (by decide)
    exact ⟨f.kk a (by decide), by rw [(g 5).2.2]; exact b, l, by rw [(g 6).2.2]; exact c, d, NL_m f hx tg d y⟩
  · obtain ⟨a, b⟩ := xb e
    have g := g a (by decide) (by decide)
    exact ⟨f.kk a (by decide), by rw [(g 5).2.2]; exact b⟩
theorem CF_fm (f : Fw X v v') (hx : XM v T z X) (tg : TG v T) (x : CF v A T U w c) : CF v' A T U w c := by
  obtain ⟨x1, x2, x3, x4, l, x5, x6, x7⟩ := x
  have lt := hK_lt x1 (by decide)
  have g := fun k (h3 : k ≠ 3) (h4 : k ≠ 4) (hk9 : k ≠ 99) => f.ff (k := k) lt (fun y => by
    rcases hx _ _ y lt with e | e | e | e | e
    · omega
    · omega
    · omega
    · omega
    · rw [← e.1] at e; omega)
  exact ⟨f.kk x1 (by decide), x2, by rw [(g 0 (by decide) (by decide) (by decide)).2.2]; exact x3, by rw [(g 2 (by decide) (by decide) (by decide)).2.2]; exact TXn_fm f hx tg x4, l, by rw [(g 1 (by decide) (by decide) (by decide)).2.2]; exact x5, x6, NL_m f hx tg x6 x7⟩
end FMS
