/-! COMPONENT, 134: a unit that is judged outlives what comes behind *-/
/-- what may change and leaves units alone -/
def XKu (v : vT) (T : Nat → Nat) (a k : Nat) : Prop := (1 ≤ hK v.1 a ∧ hK v.1 a ≤ 3) ∨ (hK v.1 a = 14 ∨ hK v.1 a = 15) ∨ 40 ≤ hK v.1 a ∨ (hK v.1 a = 22 ∧ k = 5) ∨ (hK v.1 a = 4 ∧ k = 99 ∧ T a = 0)
/-- cells of the twin stay -/
def KT (v v' : vT) : Prop := ∀ a, (hK v.1 a = 15 ∨ (40 ≤ hK v.1 a ∧ hK v.1 a ≤ 43)) → hK v'.1 a = hK v.1 a ∧ hL v'.1 a = hL v.1 a ∧ ∀ k, hI v'.1 a k = hI v.1 a k ∧ hJ v'.1 a k = hJ v.1 a k ∧ hR v'.1 a k = hR v.1 a k
section KTS
variable {v v' v'' : vT} {X : Nat → Nat → Prop}
theorem KT.rf : KT v v := fun _ _ => ⟨rfl, rfl, fun _ => ⟨rfl, rfl, rfl⟩⟩
theorem KT.tr (f : KT v v') (g : KT v' v'') : KT v v'' := fun a ha => by
  obtain ⟨f1, f2, f3⟩ := f a ha
  obtain ⟨g1, g2, g3⟩ := g a (by rw [f1]; exact ha)
  refine ⟨g1.trans f1, g2.trans f2, fun k => ?_⟩
  obtain ⟨a1, a2, a3⟩ := f3 k
  obtain ⟨b1, b2, b3⟩ := g3 k
  exact ⟨b1.trans a1, b2.trans a2, b3.trans a3⟩
theorem KT_fw (f : Fw X v v') (hx : ∀ a k, X a k → a < hN v.1 → ¬ (hK v.1 a = 15 ∨ (40 ≤ hK v.1 a ∧ hK v.1 a ≤ 43))) : KT v v' := fun a ha => by
  have lt : a < hN v.1 := hK_lt (c := hK v.1 a) rfl (by omega)
  exact ⟨(f.2.2 a lt).1, (f.2.2 a lt).2.1, fun k => f.ff lt (fun y => hx a k y lt ha)⟩
theorem KT_pI {a n k : Nat} {y : Int32} (e : hK v.1 a = n) (h : n ≠ 15 ∧ (n < 40 ∨ 43 < n)) : KT v (vpI v a k y) := KT_fw (X := fun b _ => b = a) (Fw.refl.pI (Or.inr rfl)) (fun b k y _ => by rw [y]; omega)
theorem KT_pR {a n k : Nat} {y : Option Nat} (e : hK v.1 a = n) (h : n ≠ 15 ∧ (n < 40 ∨ 43 < n)) : KT v (vpR v a k y) := KT_fw (X := fun b _ => b = a) (Fw.refl.pR (Or.inr rfl)) (fun b k y _ => by rw [y]; omega)
end KTS
section JUF
variable {R : Nat → Nat} {A : Nat → Int → Nat} {T T' : Nat → Nat} {w p0 : Int} {U : tSt} {c l : Int → Int} {v v' : vT} {X : Nat → Nat → Prop}
theorem JU_fr (ju : JU R A T w p0 v U c l) (f : Fw X v v') (hx : ∀ a k, X a k → a < hN v.1 → XKu v T a k) : JU R A T w p0 v' U c l := by
  obtain ⟨gx, ml, jd⟩ := ju
  have k9 := gx.2.2.2.1.2.2.2.2
  have t9 := gx.2.2.2.1.2.2.1
  have no : ∀ {a n : Nat}, hK v.1 a = n → n ≠ 0 → n ≠ 4 → n ≠ 14 ∧ n ≠ 15 → 3 < n → n < 40 → n ≠ 22 → ∀ k, ¬ X a k := fun {a n} e n0 n4 n14 n3 n40 n22 k y => by
    have := hx a k y (hK_lt e n0)
    unfold XKu at this
    omega
  refine ⟨GU_a (z := hN v.1) (t0 := 0) gx f (fun a k y h => Or.inl ?_) (fun s hs => Or.inl ⟨?_, by omega, rfl, rfl⟩) (fun m h0 h1 => ?_), ML_fw f ml (fun y => ?_) (fun a k y hk e => ?_), ⟨fun k hk _ => ?_, fun x hx' _ => ?_⟩⟩
  · have := hx a k y h
    unfold XKu at this
    unfold XJ
    omega
  · have := (gx.2.2.2.2.1 s hs).1.1
    have := hK_lt (a := A 2 s) (h := v.1) rfl (by omega)
    omega
  · have mf := gx.2.2.1.2.2.2 m h0 h1
    rw [(f.ff (k := 6) (hK_lt mf.1 (by decide)) (no mf.1 (by decide) (by decide) (by decide) (by decide) (by decide) (by decide) 6)).2.2]
    exact mf.2.2.2.2.2.2.1
  · have := hx _ _ y (hK_lt k9 (by decide))
    unfold XKu at this
    omega
  · have := hx a k y (hK_lt e (by decide))
    unfold XKu at this
    omega
  · have kb := gx.kb hk
    have q := fun j => (f.ff (k := j) (hK_lt kb (by decide)) (no kb (by decide) (by decide) (by decide) (by decide) (by decide) (by decide) j)).1
    unfold BF
    rw [q 2, q 3]
    exact jd.1 k hk trivial
  · have ks := (gx.2.2.2.2.1 x hx').1.1
    have q := fun j => (f.ff (a := A 2 x) (k := j) (hK_lt rfl (by omega)) (no rfl (by omega) (by omega) (by omega) (by omega) (by omega) (by omega) j)).1
    unfold SF IF
    rw [q 3, q 4, q 11]
    exact jd.2 x hx' trivial
theorem GU_T {oc : Int → Option Nat} {cl : Int → List (Option Nat)} {ov : Int → Option Nat} (g : GU R A T w p0 v U oc cl ov) (e : ∀ a, T a ≠ 0 → T a ≠ 3 → T' a = T a) (e8 : T' (R 8) = 3) (e9 : T' (R 9) = 3) (tg : TG v T' ∧ TZ v T') : GU R A T' w p0 v U oc cl ov := by
  obtain ⟨g1, g2, ⟨m1, m2, ⟨t4, t6, mz⟩, m7⟩, ⟨ga, gb, gc, gd, ge⟩, gf, gg, gh, gi, gj⟩ := g
  have e1 : ∀ {a n : Nat}, T a = n → n ≠ 0 → n ≠ 3 → T' a = n := fun {a n} h h0 h3 => by rw [e a (by omega) (by omega)]; exact h
  refine ⟨g1, g2, ⟨m1, m2, ⟨e1 t4 (by decide) (by decide), e1 t6 (by decide) (by decide), mz⟩, fun m h0 h1 => ?_⟩, ⟨tg, e8, e9, gd, ge⟩, fun s hs => ⟨(gf s hs).1, ?_⟩, fun b hb => ?_, fun s hs h => ?_, fun c hc hr => ?_, gj⟩
  · obtain ⟨a1, a2, a3, a4, a5, a6, a7, ⟨lo, a8, a9, a10⟩, a11⟩ := m7 m h0 h1
    exact ⟨a1, a2, a3, a4, a5, a6, a7, ⟨lo, a8, e1 a9 (by decide) (by decide), a10⟩, a11⟩
  · obtain ⟨f0, f3, f1, f2, f4, f5, f7, f9, f10, f11⟩ := (gf s hs).2
    refine ⟨f0, f3, f1, f2, f4, f5, fun h => ?_, fun h => ?_, fun h => ?_, f11⟩
    · obtain ⟨bt, b1, b2⟩ := f7 h
      exact ⟨bt, e1 b1 (by decide) (by decide), b2⟩
    · obtain ⟨b1, b2, b3, l5, l6, l7, l9, ⟨t5, t6, t7, t9⟩, b4⟩ := f9 h
      exact ⟨b1, b2, b3, l5, l6, l7, l9, ⟨e1 t5 (by decide) (by decide), e1 t6 (by decide) (by decide), e1 t7 (by omega) (by omega), e1 t9 (by decide) (by decide)⟩, b4⟩
    · obtain ⟨b1, b2, lo, b3, b4, b5⟩ := f10 h
      exact ⟨b1, b2, lo, b3, e1 b4 (by decide) (by decide), b5⟩
  · obtain ⟨b1, b2, lo, b3, b4, b5, b6⟩ := gg b hb
    exact ⟨b1, b2, lo, b3, b4, e1 b5 (by decide) (by decide), b6⟩
  · obtain ⟨b1, b2, b3, b4, b5⟩ := gh s hs h
    exact ⟨b1, b2, b3, e1 b4 (by decide) (by decide), b5⟩
  · obtain ⟨⟨b1, b2, b3, b4, lo, b5, b6, b7⟩, b8⟩ := gi c hc hr
    exact ⟨⟨b1, e1 b2 (by decide) (by decide), b3, b4, lo, b5, e1 b6 (by decide) (by decide), b7⟩, b8⟩
/-- the reader's own lists lose their tags -/
theorem JU_T (ju : JU R A T w p0 v U c l) {C : Nat → Nat} (hC : ∀ i, 10 ≤ i → i ≤ 14 → T (C i) = 3) (n8 : ∀ i, 10 ≤ i → i ≤ 14 → C i ≠ R 8 ∧ C i ≠ R 9) : ∃ T', JU R A T' w p0 v U c l ∧ ∀ i, 10 ≤ i → i ≤ 14 → T' (C i) = 0 := by
  haveI dd : ∀ a, Decidable (∃ i, 10 ≤ i ∧ i ≤ 14 ∧ a = C i) := fun a => Classical.propDecidable _
  obtain ⟨gx, ml, jd⟩ := ju
  have t8 := gx.2.2.2.1.2.1
  have t9 := gx.2.2.2.1.2.2.1
  have tg := gx.2.2.2.1.1
  refine ⟨fun a => if ∃ i, 10 ≤ i ∧ i ≤ 14 ∧ a = C i then 0 else T a, ⟨GU_T gx (fun a h0 h3 => ?_) ?_ ?_ ⟨fun a h0 h4 h22 => ?_, fun a ha => ?_⟩, ml, jd⟩, fun i h1 h2 => if_pos ⟨i, h1, h2, rfl⟩⟩
  · show (if _ then _ else _) = _
    rw [if_neg]
    rintro ⟨i, h1, h2, e⟩
    rw [e] at h3
    exact h3 (hC i h1 h2)
  · show (if _ then _ else _) = _
    rw [if_neg]
    · exact t8
    · rintro ⟨i, h1, h2, e⟩
      exact (n8 i h1 h2).1 e.symm
  · show (if _ then _ else _) = _
    rw [if_neg]
    · exact t9
    · rintro ⟨i, h1, h2, e⟩
      exact (n8 i h1 h2).2 e.symm
  · show (if _ then _ else _) = _
    split
    · rfl
    · exact tg.1 a h0 h4 h22
  · show (if _ then _ else _) = _
    split
    · rfl
    · exact tg.2 a ha
end JUF
