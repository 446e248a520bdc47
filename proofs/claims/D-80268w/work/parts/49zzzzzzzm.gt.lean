/-! COMPONENT, 92: the invariant between methods *-/
/-- the invariant of reading at the top level: GI without the method in hand -/
def GT (R : Nat → Nat) (A : Nat → Int → Nat) (T : Nat → Nat) (w p0 : Int) (v : vT) (S U : tSt) : Prop :=
  PT v (R 0) (R 1) (R 2) S ∧ RUn v (R 0) (R 3) (R 5) (R 9) ∧ KMp v (R 5) (A 0) U w p0 ∧ p0 ≤ S 47 0 ∧ (TG v T ∧ TZ v T) ∧ GL R A T w v U ∧
  (hI v.1 (R 0) 9 = iI 0 ∧ S 55 0 = 0) ∧ (∃ L, ML v (R 9) (insA [] L) ∧ L.Perm (mPar U w)) ∧
  (∀ s, As w U s → ES v A U w s) ∧ (∀ s, As w U s → FS v A T U w (fun _ => none) (fun _ => []) s) ∧ (∀ b, Ab w U b → FB v A T U w b) ∧
  (∀ s, As w U s → U 20 s = 5 ∨ U 20 s = 6 → LB v A T U w s) ∧
  (∀ c, As w U (c / 4) → c % 4 < U 33 (c / 4) → CF v A T U w c ∧ hI v.1 (A 4 c) 4 = bI (isS U w c = true) ∧ hR v.1 (A 4 c) 3 = some (A 3 (U 34 c))) ∧
  (∀ c d, As w U (c / 4) → c % 4 < U 33 (c / 4) → As w U (d / 4) → d % 4 < U 33 (d / 4) → A 4 c = A 4 d → c = d) ∧
  (∀ s t, As w U s → U 20 s = 5 ∨ U 20 s = 6 → As w U t → U 20 t = 5 ∨ U 20 t = 6 → A 5 s = A 5 t → s = t)
section GTS
variable {R : Nat → Nat} {A A' : Nat → Int → Nat} {T T' : Nat → Nat} {w s p0 p0' : Int} {v v' : vT} {S S' U U' : tSt} {X : Nat → Nat → Prop}
theorem GT_GI (g : GT R A T w p0 v S U) (w0 : 0 ≤ w) (m8 : hR v.1 (R 0) 8 = some (A 1 (U 9 w - 1))) (km : hK v.1 (A 1 (U 9 w - 1)) = 18) : GI R A T w (-1) p0 v S U := by
  obtain ⟨g1, g2, g3, g4, g5, g6, ⟨g7, g8⟩, g9, ga, gb, gc, gd, ge, gf, gg⟩ := g
  refine ⟨g1, g2, g3, g4, g5, g6, ⟨m8, km, by rw [g8]; exact g7⟩, g9, ga, fun s hs _ => gb s hs, fun b hb _ => gc b hb, gd, fun c hc hr => ?_, gf, gg⟩
  obtain ⟨c1, c2, c3⟩ := ge c hc hr
  exact ⟨c1, c2, fun _ => c3⟩
theorem GI_GT (g : GI R A T w (-1) p0 v S U) (w0 : 0 ≤ w) (h55 : S 55 0 = 0) : GT R A T w p0 v S U := by
  obtain ⟨g1, g2, g3, g4, g5, g6, ⟨g7, g8, g8'⟩, g9, ga, gb, gc, gd, ge, gf, gg⟩ := g
  have np : ∀ s, As w U s → ¬ pnd S U (-1) s := fun s hs y => by
    rcases y with y | ⟨i, i0, i1, _⟩
    · have := hs.1
      omega
    · omega
  refine ⟨g1, g2, g3, g4, g5, g6, ⟨by rw [← h55]; exact g8', h55⟩, g9, ga, fun s hs => gb s hs (np s hs), fun b hb => gc b hb (fun y => by obtain ⟨i, i0, i1, _⟩ := y; omega), gd, fun c hc hr => ?_, gf, gg⟩
  obtain ⟨c1, c2, c3⟩ := ge c hc hr
  exact ⟨c1, c2, c3 (np _ hc)⟩
theorem LB_fm {k : Int} {z : Nat} (f : Fw X v v') (xz : XM v T z X) (tg : TG v T) (hz : hN v.1 ≤ z) (l : LB v A T U w k) (x5 : ¬ X (A 5 k) 99) : LB v' A T U w k := by
  obtain ⟨l1, l2, l3, l4, l5⟩ := l
  have lt := hK_lt l1 (by decide)
  refine ⟨f.kk l1 (by decide), by rw [(f.ff (k := 7) lt (cc_m xz tg l1 (by decide) (by decide) (by decide) (fun q => absurd q (by decide)) (by decide) (Or.inl (by omega)))).2.2]; exact l2, f.kk l3 (by decide), l4, ?_⟩
  rw [(f.cc (hK_lt l3 (by decide)) x5).1]
  exact l5
theorem FS_T {oc : Int → Option Nat} {cl : Int → List (Option Nat)} (ht : ∀ a, T a = 1 → T' a = 1) (h7 : ∀ a, 7 ≤ T a → T' a = T a) (f : FS v A T U w oc cl s) : FS v A T' U w oc cl s := by
  obtain ⟨f0, f3, f1, f2, f4, f5, f7, f9, fa, fb, fn⟩ := f
  refine ⟨f0, f3, f1, f2, f4, f5, fun e => ?_, fun e => ?_, fun e => ?_, fb, fn⟩
  · obtain ⟨bt, t, q⟩ := f7 e
    exact ⟨bt, ht _ t, q⟩
  · obtain ⟨a, b, c, l5, l6, l7, l9, ⟨t5, t6, t7, t9⟩, q⟩ := f9 e
    exact ⟨a, b, c, l5, l6, l7, l9, ⟨ht _ t5, ht _ t6, by rw [h7 _ (by omega)]; exact t7, ht _ t9⟩, q⟩
  · obtain ⟨a, b, l, c, d, y⟩ := fa e
    exact ⟨a, b, l, c, ht _ d, y⟩
theorem FB_T {b : Int} (ht : ∀ a, T a = 1 → T' a = 1) (f : FB v A T U w b) : FB v A T' U w b := by
  obtain ⟨a, b, l, c, d, e, f⟩ := f
  exact ⟨a, b, l, c, d, ht _ e, f⟩
theorem CF_T {c : Int} (h5 : ∀ a, T a = 5 → T' a = 5) (ht : ∀ a, T a = 1 → T' a = 1) (f : CF v A T U w c) : CF v A T' U w c := by
  obtain ⟨a, b, c, d, l, e, f, g⟩ := f
  exact ⟨a, h5 _ b, c, d, l, e, ht _ f, g⟩
/-- the invariant goes on while kinds and methods come -/
theorem GT_mv (g : GT R A T w p0 v S U) (pq : PQ w U) (qv : QV U) (ek : EK U U') (f : Fw X v v') (xz : XM v T (hN v.1) X) (x0 : ∀ k, k = 7 ∨ k = 9 ∨ k = 10 ∨ k = 11 ∨ k = 12 ∨ k = 13 ∨ k = 17 → ¬ X (R 0) k) (x99 : ∀ a, T a = 2 ∨ T a = 3 → a ≠ R 9 → ¬ X a 99) (x5 : ∀ a k, k ≠ 99 → X a k → T a ≠ 5)
    (e2 : A' 2 = A 2) (e3 : A' 3 = A 3) (e4 : A' 4 = A 4) (e5 : A' 5 = A 5) (e1 : ∀ m, 0 ≤ m → m < U 9 w → A' 1 m = A 1 m) (ko : (∀ y a, optA (A' 0) (kO U' w y a) = optA (A 0) (kO U w y a)) ∨ (PL w S U ∧ ∀ y a, a ≤ S 49 0 → optA (A' 0) (kO U' w y a) = optA (A 0) (kO U w y a)))
    (t' : PT v' (R 0) (R 1) (R 2) S') (h55 : S' 55 0 = 0) (km : KMp v' (R 5) (A' 0) U' w p0') (h47 : p0' ≤ S' 47 0) (tg : TG v' T' ∧ TZ v' T') (ht : ∀ a, T a ≠ 0 → T' a = T a) (ml : ∃ L, ML v' (R 9) (insA [] L) ∧ L.Perm (mPar U' w)) : GT R A' T' w p0' v' S' U' := by
  obtain ⟨g1, g2, g3, g4, g5, g6, ⟨g7, g8⟩, g9, ga, gb, gc, gd, ge, gf, gg⟩ := g
  have k0 := g1.w0.1
  have k5 := g2.2.2.1
  have as : ∀ k, As w U' k → As w U k := fun k hk => by unfold As at hk ⊢; rw [ek 19 (by decide)] at hk; exact hk
  have ab : ∀ k, Ab w U' k → Ab w U k := fun k hk => by unfold Ab at hk ⊢; rw [ek 40 (by decide)] at hk; exact hk
  have n5 : ∀ {a n k : Nat}, hK v.1 a = n → n ≠ 0 → (n ≠ 2 ∧ n ≠ 6 ∧ n ≠ 18) → n ≠ 3 → n ≠ 4 → n ≠ 22 → ¬ X a k := fun {a n k} e h1 h2 h3 h4 h5 => cc_m xz g5.1 e h1 h2 h3 (fun q => absurd q h4) h5 (Or.inl (by have := hK_lt e h1; omega))
  have h1 : ∀ a, T a = 1 → T' a = 1 := fun a e => by rw [ht a (by omega)]; exact e
  have h5 : ∀ a, T a = 5 → T' a = 5 := fun a e => by rw [ht a (by omega)]; exact e
  have nn : ∀ k, As w U k → A 2 k ≠ hN v.1 := fun k hk => by
    have := (ga k hk).1
    have := hK_lt (a := A 2 k) (h := v.1) rfl (by omega)
    omega
  have r0 : ∀ k, k = 7 ∨ k = 9 ∨ k = 10 ∨ k = 11 ∨ k = 12 ∨ k = 13 ∨ k = 17 → hR v'.1 (R 0) k = hR v.1 (R 0) k ∧ hI v'.1 (R 0) k = hI v.1 (R 0) k := fun k hk => by
    have q := f.ff (hK_lt k0 (by decide)) (x0 k hk)
    exact ⟨q.2.2, q.1⟩
  have b33 := fun k => QV_b qv (f := 33) (c := 4) rfl rfl rfl k
  have gl : GL R A T w v' U := by
    obtain ⟨⟨a1, a2, a3⟩, ⟨b1, b2, b3⟩, ⟨c1, c2⟩, ⟨d1, d2, d3⟩, ⟨i1, i2, i3⟩, ⟨j1, j2⟩, ⟨t1, t2, t3, t4, t5, t6, t7⟩, ⟨z1, z2, z3, z4, z5, z6, z7, z8, z9, z10, z11⟩, gz⟩ := g6
    have il : ∀ {l : Nat} {N : List Int}, T l = 3 → l ≠ R 9 → IL v l N → IL v' l N := fun {l N} tl nl q => IL_fw f (x99 l (Or.inr tl) nl) (fun a k y => ⟨fun e => n5 e (by decide) (by decide) (by decide) (by decide) (by decide) y, fun e => n5 e (by decide) (by decide) (by decide) (by decide) (by decide) y⟩) q
    have ls : ∀ {l : Nat}, hK v.1 l = 4 → T l = 3 → l ≠ R 9 → vLs v' l = vLs v l := fun {l} e tl nl => (f.cc (hK_lt e (by decide)) (x99 l (Or.inr tl) nl)).1
    refine ⟨⟨by rw [(f.ff (k := 4) (hK_lt k5 (by decide)) (n5 k5 (by decide) (by decide) (by decide) (by decide) (by decide))).2.2]; exact a1, f.kk a2 (by decide), by rw [ls a2 t1 z1]; exact a3⟩, ⟨by rw [(r0 10 (by decide)).1]; exact b1, f.kk b2 (by decide), by rw [ls b2 t3 z7.symm]; exact b3⟩, ⟨by rw [(r0 11 (by decide)).1]; exact c1, il t4 z8.symm c2⟩, ⟨by rw [(r0 12 (by decide)).1]; exact d1, f.kk d2 (by decide), by rw [ls d2 t5 z9.symm]; exact d3⟩, ⟨by rw [(r0 13 (by decide)).1]; exact i1, f.kk i2 (by decide), by rw [ls i2 t6 z10.symm]; exact i3⟩, ⟨by rw [(r0 17 (by decide)).1]; exact j1, il t7 z11.symm j2⟩, ⟨t1, t2, t3, t4, t5, t6, t7⟩, ⟨z1, z2, z3, z4, z5, z6, z7, z8, z9, z10, z11⟩, gz⟩
  have gl2 : GL R A T' w v' U := by
    obtain ⟨a, b, c, d, e, k, ⟨t1, t2, t3, t4, t5, t6, t7⟩, z⟩ := gl
    have h3 : ∀ a, T a = 3 → T' a = 3 := fun a e => by rw [ht a (by omega)]; exact e
    exact ⟨a, b, c, d, e, k, ⟨h3 _ t1, h3 _ t2, h3 _ t3, h3 _ t4, h3 _ t5, h3 _ t6, h3 _ t7⟩, z⟩
  refine ⟨t', RUn_fw f g2 (x0 7 (by decide)) (fun k _ => n5 k5 (by decide) (by decide) (by decide) (by decide) (by decide)), km, h47, tg, GL_ek ek e2 gl2, ⟨by rw [(r0 9 (by decide)).2]; exact g7, h55⟩, ml, fun k hk => ?_, fun k hk => ?_, fun b hb => ?_, fun k hk hl => ?_, fun c hc hr => ?_, fun c d hc hr hd hq e => ?_, fun k d hk hl hd hq e => ?_⟩
  · obtain ⟨q1, q2, q3, q4⟩ := ga k (as k hk)
    have qq := fun j => f.ff (a := A 2 k) (k := j) (hK_lt rfl (by omega)) (cc_m xz g5.1 rfl (by omega) (by omega) (by omega) (fun q => by omega) (by omega) (Or.inl (nn k (as k hk))))
    have kk : hK v'.1 (A 2 k) = hK v.1 (A 2 k) := f.kk rfl (by omega)
    have p4 := (pq.1 k (as k hk)).2.2.2.1
    unfold ES
    rw [e2, e1 _ (by rw [ek 23 (by decide)]; exact p4.1) (by rw [ek 23 (by decide)]; exact p4.2), ek 21 (by decide), ek 23 (by decide), kk, (qq 0).1, (qq 1).1, (qq 2).2.2]
    exact ⟨q1, q2, q3, q4⟩
  · have hk' := as k hk
    exact FS_ek ek e2 e3 e4 (fun q => by
      rcases ko with z | ⟨pl, z⟩
      · exact z _ _
      · exact z _ _ ((pl.1 k hk').1 q)) (fun i i0 i1 => by
      rcases ko with z | ⟨pl, z⟩
      · exact z _ _
      · exact z _ _ ((pl.1 k hk').2.1 i i0 i1)) (FS_T h1 (fun a e => ht a (by omega)) (FS_fm f xz g5.1 (nn k hk') (gb k hk')))
  · exact FB_ek ek e2 e3 (FB_T h1 (FB_fm f xz g5.1 (gc b (ab b hb))))
  · rw [ek 20 (by decide)] at hl
    have lb := gd k (as k hk) hl
    have n9 : A 5 k ≠ R 9 := fun e => by have := lb.2.2.2.1; rw [e, g6.2.2.2.2.2.2.1.2.1] at this; omega
    obtain ⟨q1, q2, q3, q4, q5⟩ := LB_fm f xz g5.1 (Nat.le_refl _) lb (x99 _ (Or.inl lb.2.2.2.1) n9)
    exact LB_ek ek e2 e5 ⟨q1, q2, q3, by rw [ht _ (by omega)]; exact q4, q5⟩
  · have hc' := as _ hc
    rw [ek 33 (by decide)] at hr
    obtain ⟨c1, c2, c3⟩ := ge c hc' hr
    have q := fun j (hj : j ≠ 99) => f.ff (k := j) (hK_lt c1.1 (by decide)) (fun y => x5 _ _ hj y c1.2.1)
    rw [e4, e3, isS_ek ek, ek 34 (by decide), (q 4 (by decide)).1, (q 3 (by decide)).2.2]
    exact ⟨CF_ek ek e2 e4 (fun i i0 i1 => by
      rcases ko with z | ⟨pl, z⟩
      · exact z _ _
      · have l3 := (pl.1 _ hc').2.2 (c % 4) (by omega) hr
        rw [show 4 * (c / 4) + c % 4 = c by omega] at l3
        exact z _ _ (l3 i i0 i1)) (CF_T h5 h1 (CF_fm f xz g5.1 c1)), c2, c3⟩
  · rw [ek 33 (by decide)] at hr hq
    rw [e4] at e
    exact gf c d (as _ hc) hr (as _ hd) hq e
  · rw [ek 20 (by decide)] at hl hq
    rw [e5] at e
    exact gg k d (as _ hk) hl (as _ hd) hq e
end GTS
