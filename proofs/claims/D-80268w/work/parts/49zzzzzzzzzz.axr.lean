/-! COMPONENT, 139: ThrowRules.read (7) *-/
section AXR
variable {x rd tp wr wk r : Nat} {C R : Nat → Nat} {A : Nat → Int → Nat} {T : Nat → Nat} {p0 w : Int} {g : Int → Int} {v v' : vT} {h : am_H} {S S' U U1 : tSt} {Q : am_O → am_H → Prop} {X : Nat → Nat → Prop} {t : Int → Int}
theorem RdS_fr (y : RdS v rd tp wr C t) (f : Fw X v v') (hx : ∀ a k, X a k → a < hN v.1 → XR0 rd wr C a k ∨ XLk v a k ∨ hK v.1 a = 1) : RdS v' rd tp wr C t := by
  obtain ⟨⟨kr, wr0, kw⟩, ⟨kt, lt, ht⟩, ⟨g10, g11, g12, g13, g17⟩, kC, ds, cs⟩ := y
  have lr := hK_lt kr (by decide)
  have ltp := hK_lt kt (by decide)
  have nr : ∀ k, (k = 0 ∨ (10 ≤ k ∧ k ≤ 13) ∨ k = 17) → ¬ X rd k := fun k hk z => by
    rcases hx rd k z lr with (e | e | ⟨_, i, h1, h2, e⟩) | e | e
    · omega
    · rw [← e.1, kr] at kw; omega
    · have := kC i h1 h2
      rw [← e, kr] at this
      omega
    · unfold XLk at e; omega
    · omega
  have rr : ∀ k, (k = 0 ∨ (10 ≤ k ∧ k ≤ 13) ∨ k = 17) → hR v'.1 rd k = hR v.1 rd k := fun k hk => (f.ff lr (nr k hk)).2.2
  refine ⟨⟨f.kk kr (by decide), by rw [rr 0 (by omega)]; exact wr0, f.kk kw (by decide)⟩, ⟨f.kk kt (by decide), by rw [(f.2.2 tp ltp).2.1]; exact lt, fun p h0 h1 => ?_⟩, ⟨by rw [rr 10 (by omega)]; exact g10, by rw [rr 11 (by omega)]; exact g11, by rw [rr 12 (by omega)]; exact g12, by rw [rr 13 (by omega)]; exact g13, by rw [rr 17 (by omega)]; exact g17⟩, fun i h1 h2 => f.kk (kC i h1 h2) (by decide), ds, fun k hk => ?_⟩
  · rw [(f.ff ltp (fun z => by
      rcases hx tp _ z ltp with (e | e | ⟨_, i, h1, h2, e⟩) | e | e
      · rw [← e.1, kt] at kr; omega
      · rw [← e.1, kt] at kw; omega
      · have := kC i h1 h2
        rw [← e, kt] at this
        omega
      · unfold XLk at e; omega
      · omega)).1]
    exact ht p h0 h1
  · obtain ⟨c1, c2⟩ := cs k hk
    rw [f.2.1 k]
    have lc := hK_lt c1 (by decide)
    refine ⟨f.kk c1 (by decide), ?_⟩
    rw [(f.cc lc (fun z => by
      rcases hx _ _ z lc with (e | e | ⟨_, i, h1, h2, e⟩) | e | e
      · rw [← e.1, c1] at kr; omega
      · omega
      · have := kC i h1 h2
        rw [← e, c1] at this
        omega
      · unfold XLk at e; omega
      · omega)).2.2.2]
    exact c2
theorem AX_fr (ax : AX v x rd tp wr wk C R A T p0 g w S U) (f : Fw X v v') (hx : ∀ a k, X a k → a < hN v.1 → XR0 rd wr C a k) (es : ∀ f, f = 0 ∨ f = 1 ∨ (58 ≤ f ∧ f ≤ 63) ∨ f = 65 → S' f = S f) (sl : SL S') : AX v' x rd tp wr wk C R A T p0 g w S' U := by
  obtain ⟨⟨kx, r0, i1, r2, r3, r4⟩, ⟨kw, i4⟩, y, ju, jp, tC, m, _⟩ := ax
  have kr := y.1.1
  have kwr := y.1.2.2
  have kC := y.2.2.2.1
  have no : ∀ {a n : Nat}, hK v.1 a = n → n ≠ 0 → n ≠ 2 → n ≠ 3 → n ≠ 4 → ∀ k, ¬ X a k := fun {a n} e n0 n2 n3 n4 k z => by
    rcases hx a k z (hK_lt e n0) with e1 | e1 | ⟨_, i, h1, h2, e1⟩
    · rw [e1.1, kr] at e; omega
    · rw [e1.1, kwr] at e; omega
    · rw [e1, kC i h1 h2] at e; omega
  have fx := fun k => f.ff (k := k) (hK_lt kx (by decide)) (no kx (by decide) (by decide) (by decide) (by decide) k)
  have fw := fun k => f.ff (k := k) (hK_lt kw (by decide)) (no kw (by decide) (by decide) (by decide) (by decide) k)
  refine ⟨⟨f.kk kx (by decide), by rw [(fx 0).2.2]; exact r0, by rw [(fx 1).1, es 1 (by omega)]; exact i1, by rw [(fx 2).2.2]; exact r2, by rw [(fx 3).2.2]; exact r3, by rw [(fx 4).2.2]; exact r4⟩, ⟨f.kk kw (by decide), by rw [(fw 4).1, es 65 (by omega)]; exact i4⟩, by rw [es 0 (by omega)]; exact RdS_fr y f (fun a k z h => Or.inl (hx a k z h)), ?_, by rw [es 58 (by omega), es 59 (by omega)]; exact jp, tC, by rw [es 58 (by omega), es 59 (by omega), es 60 (by omega), es 61 (by omega), es 62 (by omega), es 63 (by omega)]; exact m, sl⟩
  rw [es 58 (by omega), es 59 (by omega)]
  refine JU_fr ju f (fun a k z h => ?_)
  unfold XKu
  rcases hx a k z h with e1 | e1 | ⟨e0, i, h1, h2, e1⟩
  · rw [e1.1, kr]; omega
  · rw [e1.1, kwr]; omega
  · exact Or.inr (Or.inr (Or.inr (Or.inr ⟨by rw [e1]; exact kC i h1 h2, e0, by rw [e1]; exact tC i h1 h2⟩)))
theorem mP_f {L : List tMi} {f : Nat} (h : f ≠ 60 ∧ f ≠ 61 ∧ f ≠ 62 ∧ f ≠ 63) : mP S L f = S f := by
  unfold mP
  rw [up_n h.1]
  funext j
  unfold mA
  split
  · rw [if_neg h.2.1, if_neg h.2.2.1, if_neg h.2.2.2]
  · rfl
theorem mP_6 {L : List tMi} : mP S L 60 0 = L.length ∧ ∀ j : Int, 0 ≤ j → j < L.length → (mP S L 61 j, (mP S L 62 j, mP S L 63 j)) = L.getD j.toNat (0, (0, 0)) := by
  unfold mP
  refine ⟨up_s, fun j h0 h1 => ?_⟩
  rw [up_n (by decide), up_n (by decide), up_n (by decide)]
  have e : ∀ f, mA S L f j = if f = 61 then (L.getD j.toNat (0, (0, 0))).1 else if f = 62 then (L.getD j.toNat (0, (0, 0))).2.1 else if f = 63 then (L.getD j.toNat (0, (0, 0))).2.2 else S f j := fun f => by
    unfold mA
    rw [if_pos (show 0 ≤ j ∧ j < L.length from ⟨h0, h1⟩)]
  rw [e 61, e 62, e 63]
  rfl
theorem ax_read (c : CR h v) (ax : AX v x rd tp wr wk C R A T p0 g w S U) (w0 : 0 ≤ w ∧ w ≤ 1) (qv1 : QV U1) (hr : 9 ≤ r) (s13 : S 1 0 ≤ 1300)
    (q1 : (tRun (1 - w) 2001 (tBgn S w) (tClear (1 - w) U1)).1 52 0 = -1 → ∀ h' v' R' A' T' p0' g' k, CR h' v' → tStops (tRun (1 - w) 2001 (tBgn S w) (tClear (1 - w) U1)).2 (1 - w) ((tRun (1 - w) 2001 (tBgn S w) (tClear (1 - w) U1)).2 19 (1 - w)).toNat k (tLeft (tRun (1 - w) 2001 (tBgn S w) (tClear (1 - w) U1)).2 (1 - w) ((tRun (1 - w) 2001 (tBgn S w) (tClear (1 - w) U1)).2 19 (1 - w)).toNat (tRun (1 - w) 2001 (tBgn S w) (tClear (1 - w) U1)).1) →
      ((mAll (tRun (1 - w) 2001 (tBgn S w) (tClear (1 - w) U1)).2 (1 - w) (tJdg (tRun (1 - w) 2001 (tBgn S w) (tClear (1 - w) U1)).2 (1 - w) k (tRun (1 - w) 2001 (tBgn S w) (tClear (1 - w) U1)).1 58) (tJdg (tRun (1 - w) 2001 (tBgn S w) (tClear (1 - w) U1)).2 (1 - w) k (tRun (1 - w) 2001 (tBgn S w) (tClear (1 - w) U1)).1 59)).length : Int) ≤ 3 * S 1 0 →
      (∀ z, AX v' x rd tp wr wk C R' A' T' p0' g' (1 - w) (mP (up (tJdg (tRun (1 - w) 2001 (tBgn S w) (tClear (1 - w) U1)).2 (1 - w) k (tRun (1 - w) 2001 (tBgn S w) (tClear (1 - w) U1)).1) 57 0 z) (insA [] (mAll (tRun (1 - w) 2001 (tBgn S w) (tClear (1 - w) U1)).2 (1 - w) (tJdg (tRun (1 - w) 2001 (tBgn S w) (tClear (1 - w) U1)).2 (1 - w) k (tRun (1 - w) 2001 (tBgn S w) (tClear (1 - w) U1)).1 58) (tJdg (tRun (1 - w) 2001 (tBgn S w) (tClear (1 - w) U1)).2 (1 - w) k (tRun (1 - w) 2001 (tBgn S w) (tClear (1 - w) U1)).1 59)))) (tRun (1 - w) 2001 (tBgn S w) (tClear (1 - w) U1)).2) →
      (hN v'.1 : Int) ≤ hN v.1 + 3100 + 310 * S 1 0 → hS v.1 ≤ hS v'.1 → (hS v'.1 : Int) ≤ hS v.1 + 45000 + 2100 * S 1 0 → KT v v' → Q (Sum.inl (some (vI (iI ((tRun (1 - w) 2001 (tBgn S w) (tClear (1 - w) U1)).2 9 (1 - w)))))) h')
    (q2 : (tRun (1 - w) 2001 (tBgn S w) (tClear (1 - w) U1)).1 52 0 ≠ -1 → ∀ h' v', CR h' v' → AX v' x rd tp wr wk C R A T p0 g w (up (tRun (1 - w) 2001 (tBgn S w) (tClear (1 - w) U1)).1 2 0 w) U → (hN v'.1 : Int) ≤ hN v.1 + 3100 + 310 * S 1 0 → hS v.1 ≤ hS v'.1 → (hS v'.1 : Int) ≤ hS v.1 + 45000 + 2100 * S 1 0 → KT v v' → Q (Sum.inl (some (vI (iI (-10 - (tRun (1 - w) 2001 (tBgn S w) (tClear (1 - w) U1)).1 52 0))))) h') : Cl (r + 1) 7 [vR (some x)] h Q := by
  obtain ⟨⟨kx, r0, i1, r2, r3, r4⟩, ⟨kw, i4⟩, y, ju, jp, tC, m, sl⟩ := id ax
  have kxh := c.kk kx (by decide)
  have ax1 := AX_t (t := 0) ax ⟨by decide, by decide⟩
  have c1 := CR_pI (k := 1) (x := iI 0) c kx rfl
  have n1 : hN (vpI v x 1 (iI 0)).1 = hN v.1 := rfl
  have s1 : hS (vpI v x 1 (iI 0)).1 = hS v.1 := rfl
  have kt0 : KT v (vpI v x 1 (iI 0)) := KT_pI kx (by decide)
  rw [eX0_read, sX0_read_0, sX0_read_1 kxh, c.ii kx rfl, i1, sX0_read_4, sX0_read_5, sX0_read_6, sX0_read_7 kxh, show (0 : Int32) = iI 0 from rfl]
  generalize vpI v x 1 (iI 0) = v1 at *
  generalize putI h x 1 (iI 0) = h1 at *
  obtain ⟨⟨kx1, r01, _, r21, r31, r41⟩, ⟨kw1, i41⟩, y1, _⟩ := id ax1
  rw [up_n (by decide)] at y1 i41
  have kr1 := y1.1.1
  have kwr1 := y1.1.2.2
  have kC1 := y1.2.2.2.1
  have kx1h := c1.kk kx1 (by decide)
  have ks : KS S (tRun (1 - w) 2001 (tBgn S w) (tClear (1 - w) U1)).1 → True := fun _ => trivial
  have keep : ∀ f, f ≠ 1 → f ≠ 2 → f ≠ 47 → f ≠ 48 → f ≠ 49 → f ≠ 50 → f ≠ 51 → f ≠ 52 → f ≠ 53 → f ≠ 54 → f ≠ 55 → f ≠ 56 → (tRun (1 - w) 2001 (tBgn S w) (tClear (1 - w) U1)).1 f = S f := fun f a1 a2 a47 a48 a49 a50 a51 a52 a53 a54 a55 a56 => by
    have := KS_run (w := 1 - w) 2001 (tBgn S w) (tClear (1 - w) U1) f (by unfold kF; simp [a47, a49, a50, a51, a52, a53, a54, a55, a56])
    rw [this]
    unfold tBgn
    rw [tAdv_o f a47 a49 a50 a51, up_n a52, up_n a55, up_n a47, up_n a2, up_n a1, up_n a48]
  have k1 : (tRun (1 - w) 2001 (tBgn S w) (tClear (1 - w) U1)).1 1 0 = 0 := by
    have := KS_run (w := 1 - w) 2001 (tBgn S w) (tClear (1 - w) U1) 1 rfl
    rw [this]
    unfold tBgn
    rw [tAdv_o 1 (by decide) (by decide) (by decide) (by decide)]
    simp only [up_eq, true_and, false_and, and_true, and_false, and_self, if_true, if_false, eq_self, Nat.reduceEqDiff, reduceIte]
  have slY := SL_rd (U1 := U1) sl w0.1 w0.2
  rw [sX0_read_10, sX0_read_11, sX0_read_12 kx1h, c1.rr kx1 rfl, r21, sX0_read_15, sX0_read_16 kx1h, c1.rr kx1 rfl, r01, sX0_read_19, sX0_read_20 (c1.kk kr1 (by decide))]
  have ktR : ∀ a k, XR0 rd wr C a k ∨ XLk v1 a k → ¬ (hK v1.1 a = 15 ∨ (40 ≤ hK v1.1 a ∧ hK v1.1 a ≤ 43)) := fun a k z => by
    rcases z with (e1 | e1 | ⟨_, i, h1, h2, e1⟩) | e1
    · rw [e1.1, kr1]; omega
    · rw [e1.1, kwr1]; omega
    · rw [e1, kC1 i h1 h2]; omega
    · unfold XLk at e1; omega
  refine c_read c1 y1 sl w0 qv1 hr (fun e h2 v2 A2 T2 p2 g2 k c2 st jp2 ju2 ml f2 t2 n2 s2 z2 => ?_) (fun h2 v2 p ep pn c2 f2 w6 n2 s2 z2 => ?_)
  · rw [KtH_v]
    have kx2 := f2.kk kx1 (by decide)
    rw [sX0_read_23 (c2.kk kx2 (by decide)), sX0_read_26]
    have lx1 := hK_lt kx1 (by decide)
    have lw1 := hK_lt kw1 (by decide)
    have no : ∀ {a n : Nat}, hK v1.1 a = n → n = 1 ∨ n = 14 → ∀ k, ¬ (XR0 rd wr C a k ∨ XLk v1 a k) := fun {a n} e n0 k z => by
      rcases z with (e1 | e1 | ⟨_, i, h1, h2, e1⟩) | e1
      · rw [e1.1, kr1] at e; omega
      · rw [e1.1, kwr1] at e; omega
      · rw [e1, kC1 i h1 h2] at e; omega
      · unfold XLk at e1; omega
    have fx := fun k => f2.ff (k := k) lx1 (no kx1 (Or.inl rfl) k)
    have fw := fun k => f2.ff (k := k) lw1 (no kw1 (Or.inr rfl) k)
    have c3 := CR_pR (k := 3) (z := some (hN v1.1)) c2 kx2 rfl
    have f3 : Fw (fun a k => a = x ∧ k = 3) v2 (vpR v2 x 3 (some (hN v1.1))) := Fw.refl.pR (Or.inr ⟨rfl, rfl⟩)
    have e3 : hR (vpR v2 x 3 (some (hN v1.1))).1 x 3 = some (hN v1.1) := by rw [vpR_1, hR_putR, if_pos ⟨rfl, rfl⟩]
    have n3 : hN (vpR v2 x 3 (some (hN v1.1))).1 = hN v2.1 := rfl
    have s3 : hS (vpR v2 x 3 (some (hN v1.1))).1 = hS v2.1 := rfl
    have kt3 : KT v2 (vpR v2 x 3 (some (hN v1.1))) := KT_pR kx2 (by decide)
    generalize vpR v2 x 3 (some (hN v1.1)) = v3 at *
    generalize putR h2 x 3 (some (hN v1.1)) = h3 at *
    have kx3 := f3.kk kx2 (by decide)
    have lx2 := hK_lt kx2 (by decide)
    have kw2 := f2.kk kw1 (by decide)
    have lC : ∀ i, 10 ≤ i → i ≤ 14 → C i < hN v1.1 := fun i h1 h2 => hK_lt (kC1 i h1 h2) (by decide)
    obtain ⟨T3, ju3, tC3⟩ := JU_T ju2 t2 (fun i h1 h2 => by
      have := lC i h1 h2
      exact ⟨fun z => by have : C i = hN v1.1 + 5 := z; omega, fun z => by have : C i = hN v1.1 + 6 := z; omega⟩)
    have ju4 := JU_fr ju3 f3 (fun a k z _ => Or.inl (by rw [z.1, kx2]; decide))
    have y2 := RdS_fr y1 f2 (fun a k z _ => by
      rcases z with z | z
      · exact Or.inl z
      · exact Or.inr (Or.inl z))
    have y3 := RdS_fr y2 f3 (fun a k z _ => Or.inr (Or.inr (by rw [z.1]; exact kx2)))
    have gx4 := ju4.1
    have ku : hK v3.1 (hN v1.1) = 5 := gx4.1.1.1
    obtain ⟨a1, k6, v6⟩ := gx4.2.2.1.1
    have b9 := QV_b jp2.2.1.2.1 (f := 9) (c := 12) rfl rfl rfl (1 - w)
    have b19 := QV_b jp2.2.1.2.1 (f := 19) (c := 120) rfl rfl rfl (1 - w)
    rw [sX0_read_38, sX0_read_39 (c3.kk kx3 (by decide)), c3.rr kx3 rfl, e3, sX0_read_42 (c3.kk ku (by decide)), c3.rr ku rfl]
    have a1' : hR v3.1 (hN v1.1) 2 = some (RR rd tp wr (hN v1.1) C 6) := a1
    rw [a1', sX0_read_45 (c3.kk k6 (by decide)), v_size c3 k6, Kt_v, v6, rowL_len, sX0_read_48, show ((((tRun (1 - w) 2001 (tBgn S w) (tClear (1 - w) U1)).2 9 (1 - w)).toNat : Nat) : Int) = (tRun (1 - w) 2001 (tBgn S w) (tClear (1 - w) U1)).2 9 (1 - w) by omega]
    have qaJ : QA (tJdg (tRun (1 - w) 2001 (tBgn S w) (tClear (1 - w) U1)).2 (1 - w) k (tRun (1 - w) 2001 (tBgn S w) (tClear (1 - w) U1)).1) := tSwps_QA jp2.2.1.2.2.1 _ (by omega) _ _ (tLeft_QA _ _ slY.2.2.2.2)
    have jo : ∀ f, f ≠ 58 → f ≠ 59 → tJdg (tRun (1 - w) 2001 (tBgn S w) (tClear (1 - w) U1)).2 (1 - w) k (tRun (1 - w) 2001 (tBgn S w) (tClear (1 - w) U1)).1 f = (tRun (1 - w) 2001 (tBgn S w) (tClear (1 - w) U1)).1 f := fun f a b => by
      unfold tJdg
      rw [tSwps_o f a, tLeft_o f a b]
    refine q1 e h3 v3 (RR rd tp wr (hN v1.1) C) A2 T3 p2 g2 k c3 st ml (fun z => ?_) (by omega) (by omega) (by omega) ((kt0.tr (KT_fw f2 (fun a k z _ => ktR a k z))).tr kt3)
    generalize hJ : tJdg (tRun (1 - w) 2001 (tBgn S w) (tClear (1 - w) U1)).2 (1 - w) k (tRun (1 - w) 2001 (tBgn S w) (tClear (1 - w) U1)).1 = J at *
    generalize hL : insA [] (mAll (tRun (1 - w) 2001 (tBgn S w) (tClear (1 - w) U1)).2 (1 - w) (J 58) (J 59)) = L at *
    have sf : ∀ f, f ≠ 57 → (f ≠ 60 ∧ f ≠ 61 ∧ f ≠ 62 ∧ f ≠ 63) → mP (up J 57 0 z) L f = J f := fun f a b => by rw [mP_f b, up_n a]
    have Ll : L.length = (mAll (tRun (1 - w) 2001 (tBgn S w) (tClear (1 - w) U1)).2 (1 - w) (J 58) (J 59)).length := by rw [← hL, insA_len, List.length_nil, Nat.zero_add]
    refine ⟨⟨kx3, ?_, ?_, ?_, e3, ?_⟩, ⟨f3.kk kw2 (by decide), ?_⟩, ?_, ?_, ?_, tC3, ⟨⟨?_, ?_⟩, fun j j0 j1 => ?_⟩, ?_⟩
    · rw [(f3.ff lx2 (fun q => by omega)).2.2, (fx 0).2.2]; exact r01
    · rw [(f3.ff lx2 (fun q => by omega)).1, (fx 1).1, sf 1 (by decide) (by decide), jo 1 (by decide) (by decide), k1]
      have := ax1.1.2.2.1
      rw [up_s] at this
      exact this
    · rw [(f3.ff lx2 (fun q => by omega)).2.2, (fx 2).2.2]; exact r21
    · rw [(f3.ff lx2 (fun q => by omega)).2.2, (fx 4).2.2]; exact r41
    · rw [(f3.ff (hK_lt kw2 (by decide)) (fun q => by rw [q.1, kx2] at kw2; omega)).1, (fw 4).1, sf 65 (by decide) (by decide), jo 65 (by decide) (by decide), keep 65 (by decide) (by decide) (by decide) (by decide) (by decide) (by decide) (by decide) (by decide) (by decide) (by decide) (by decide) (by decide)]
      exact i41
    · rw [sf 0 (by decide) (by decide), jo 0 (by decide) (by decide), keep 0 (by decide) (by decide) (by decide) (by decide) (by decide) (by decide) (by decide) (by decide) (by decide) (by decide) (by decide) (by decide)]
      exact y3
    · rw [sf 58 (by decide) (by decide), sf 59 (by decide) (by decide)]; exact ju4
    · rw [sf 58 (by decide) (by decide), sf 59 (by decide) (by decide)]; exact jp2
    · rw [sf 58 (by decide) (by decide), sf 59 (by decide) (by decide), mP_6.1, Ll]
    · rw [mP_6.1, Ll]; omega
    · rw [mP_6.1] at j1
      rw [sf 58 (by decide) (by decide), sf 59 (by decide) (by decide), mP_6.2 j j0 j1, hL]
    · obtain ⟨s0, _, s3', s4', _⟩ := slY
      refine ⟨?_, ?_, ?_, ?_, fun j => ?_⟩
      · rw [sf 0 (by decide) (by decide), jo 0 (by decide) (by decide)]; exact s0
      · rw [sf 1 (by decide) (by decide), jo 1 (by decide) (by decide), k1]; decide
      · rw [sf 53 (by decide) (by decide), jo 53 (by decide) (by decide)]; exact s3'
      · rw [sf 54 (by decide) (by decide), jo 54 (by decide) (by decide)]; exact s4'
      · rw [sf 58 (by decide) (by decide), sf 59 (by decide) (by decide)]; exact qaJ j
  · rw [KtH_x]
    have kwr2 := f2.kk kwr1 (by decide)
    have kwr2h := c2.kk kwr2 (by decide)
    refine ⟨kwr2h, ?_⟩
    rw [sX0_read_29, sX0_read_30, sX0_read_32, sX0_read_33 kwr2h, c2.ii kwr2 rfl, w6, sX0_read_36, sX0_read_37, show (-10 : Int32) = iI (-10) from rfl, iI_sub, ← ep]
    refine q2 (by rw [ep]; exact pn) h2 v2 c2 (AX_fr ax1 f2 (fun a k z _ => z) (fun f hf => ?_) (SL_2 slY)) (by omega) (by omega) (by omega) (kt0.tr (KT_fw f2 (fun a k z _ => ktR a k (Or.inl z))))
    rw [up_n (by omega)]
    by_cases f1 : f = 1
    · subst f1
      funext j
      have := KS_run (w := 1 - w) 2001 (tBgn S w) (tClear (1 - w) U1) 1 rfl
      rw [this]
      unfold tBgn
      rw [tAdv_o 1 (by decide) (by decide) (by decide) (by decide), up_n (by decide), up_n (by decide), up_n (by decide), up_n (by decide)]
      unfold up
      by_cases j0 : j = 0
      · simp [j0]
      · simp [j0]
    · rw [keep f f1 (by omega) (by omega) (by omega) (by omega) (by omega) (by omega) (by omega) (by omega) (by omega) (by omega) (by omega), up_n f1]
end AXR
