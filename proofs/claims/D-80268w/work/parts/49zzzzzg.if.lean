/-! COMPONENT, 48: if *-/
section IFS
variable {r a f k : Nat} {h : am_H} {R : Nat → Nat} {A Ah : Nat → Int → Nat} {T Th : Nat → Nat} {w s b0 p0 c d what num i : Int} {v v' vh : vT} {S Sh Uh U : tSt} {o o0 z : Option Nat} {Q : am_O → am_H → Prop} {l2 l4 l5 l6 l7 l8 l9 l10 l11 l12 : Option am_V}
/-- a block of the statement in hand is read, and it is in hand again -/
theorem own_md (blc : BLC r R w p0) (cr : CR h v) (md : MD R A T w s p0 v S U o0) (hr : 9 - S 55 0 ≤ r) (hw : what ≠ 0 ∧ (what = 4 → U 20 s = 5 ∨ U 20 s = 6)) (cx : CX R w b0 Ah Th vh Uh A T v U c d) (hs : 120 * w + Uh 19 w ≤ s) (n0 : 0 ≤ Uh 19 w)
    (hf : (f = 27 ∨ f = 28 ∨ f = 29) ∧ i = s ∨ f = 34 ∧ 4 * s ≤ i ∧ i < 4 * s + 4) (hP1 : tIsO S = true → PI w (tOpn w what s num f i S U).1 (tOpn w what s num f i S U).2 ∧ PR w (tOpn w what s num f i S U).2 ∧ QV (tOpn w what s num f i S U).2)
    (ar : tIsO S = true → FX w s U (oU w what s num f i S U) → AR v A (oU w what s num f i S U) (w * 1024 + U 40 w + 2).toNat (w * 1024 + U 40 w) o)
    (q1 : tIsO S = true → ∀ h' v' A' T' S' U3, CR h' v' → MD R A' T' w s p0 v' S' U3 o0 → CX R w b0 Ah Th vh Uh A' T' v' U3 (c + (300 * (S' 47 0 - S 47 0) - 250)) (d + (2000 * (S' 47 0 - S 47 0) - 1700)) → AE w U A A' T T' → (∀ a, a < hN v.1 → T' a = T a) → Fw (Xb (R 0) (R 2) T) v v' → FU w (oU w what s num f i S U) U3 → As w (oU w what s num f i S U) s →
      tGo w (tOpn w what s num f i S U) (tShut w (w * 1024 + U 40 w) S' U3) → S' 51 0 ≠ -2 → S' 55 0 = S 55 0 → (∀ i, i < S 55 0 → S' 56 i = S 56 i) → S' 48 0 = S 48 0 → S 47 0 < S' 47 0 → FB v' A' T' U3 w (w * 1024 + U 40 w) → (U3 41 (w * 1024 + U 40 w) = what ∧ U3 42 (w * 1024 + U 40 w) = s) → (U3 20 s = U 20 s ∧ U3 33 s = U 33 s ∧ U3 30 s = U 30 s ∧ U3 25 s = U 25 s ∧ U3 26 s = U 26 s ∧ Ab w U3 (w * 1024 + U 40 w)) → Q (Sum.inl (some (vR (some (A' 3 (w * 1024 + U 40 w)))))) h')
    (hc : c ≤ 300 * (S 47 0 - Sh 47 0) + 60) (hd : d ≤ 2000 * (S 47 0 - Sh 47 0) + 800) (e55 : S 55 0 = Sh 55 0) (e48 : S 48 0 = Sh 48 0)
    (q2 : ∀ h' v' p, CR h' v' → WX R Th vh v' Sh (20 - 2 * Sh 55 0) p → doom w (tOpn w what s num f i S U) p → Q (Sum.inr (R 2)) h') : Cl r 134 [vR (some (R 0)), vR o] h Q := by
  obtain ⟨g, ⟨hP, pr, qv, w0⟩, ⟨d1, s52⟩, aro, hsA, e22, ch⟩ := md
  refine own_block blc cr g hP pr qv w0 hsA e22 hw ch d1 s52 hr cx hs n0 hf (fun p => ?_) ar (fun p h' v' A' T' S' U3 c' G3 ⟨P3, R3, Q3⟩ cx3 ae ts mf fu go n51 x52 x55 x56 e48 lt fb e41 art => ?_) hc hd e55 e48 q2
  · have := hP1 p
    rw [tOpn_e p] at this
    exact this
  · have hsB : As w (oU w what s num f i S U) s := As_of hsA (oU_o (by decide) (by omega))
    have ee : ∀ g, (20 ≤ g ∧ g ≤ 30 ∨ g = 33) → g ≠ 24 → g ≠ f → U3 g s = U g s := fun g h1 h2 h3 => by rw [fu.fs hsB (by omega) (by omega) h2, oU_o (by omega) h3]
    have e223 : U3 22 s = U 22 s := ee 22 (by decide) (by decide) (by omega)
    obtain ⟨o1, _⟩ := oU_v (w := w) (what := what) (own := s) (num := num) (i := i) (U := U) p (show f < 40 by omega)
    have ab3 : Ab w U3 (w * 1024 + U 40 w) := fu.aB ⟨by have := pr.2.1; omega, by rw [o1]; omega⟩
    refine q1 p h' v' A' T' S' U3 c' ⟨G3, ⟨P3, R3, Q3, w0⟩, ⟨by omega, x52⟩, ?_, fu.aS hsB, ?_, ?_⟩ cx3 ae ts mf fu hsB go n51 x55 x56 e48 lt fb e41 ⟨ee 20 (by decide) (by decide) (by omega), ee 33 (by decide) (by decide) (by omega), ee 30 (by decide) (by decide) (by omega), ee 25 (by decide) (by decide) (by omega), ee 26 (by decide) (by decide) (by omega), ab3⟩
    · rw [e223]
      exact art _ _ _ (pr.1.1 s hsA).1 aro
    · rw [e223, x55, x56 _ (by omega)]
      exact e22
    · have hx := (OP_mk g hP pr qv w0 hsA p hf (by have := hP1 p; rw [tOpn_e p] at this; exact this)).1
      have P1 := hP1 p
      rw [tOpn_e p] at P1
      have c1 := CH_fx (S' := S) w0.1 hx hP pr (own_ne hP pr ch d1 e22) d1 rfl (fun _ _ => rfl) ch
      exact CH_fua w0.1 fu (fun j j0 j1 => ⟨(hP.ab j j0 j1).1, by have := (hP.ab j j0 j1).2; omega⟩) (by rw [oU_o (by decide) (by omega)]; exact hP.2.2.2.2.2.1.1) P1.2.1 d1 x55 x56 c1
theorem GI.ek (g : GI R A T w b0 p0 v S U) (hs : As w U s) : 30 ≤ hK v.1 (A 2 s) ∧ hK v.1 (A 2 s) ≤ 38 := (g.2.2.2.2.2.2.2.2.1 s hs).1
theorem MD_pR (md : MD R A T w s p0 v S U o) (hk : 5 ≤ k) (k7 : k = 7 → U 20 s ≠ 5 ∧ U 20 s ≠ 6) (k99 : k ≠ 99) : MD R A T w s p0 (vpR v (A 2 s) k z) S U o := by
  obtain ⟨g, ⟨hP, pr, qv, w0⟩, q1, ar, hsA, e22, ch⟩ := md
  have es := g.ek hsA
  have f : Fw (fun c j => c = A 2 s ∧ j = k) v (vpR v (A 2 s) k z) := Fw.refl.pR (Or.inr ⟨rfl, rfl⟩)
  have k0 := g.1.w0.1
  have n0 : A 2 s ≠ R 0 := fun e => by rw [e, k0] at es; exact absurd es.1 (by decide)
  refine ⟨GI_x (z := A 2 s) g pr qv w0 f (fun c j y _ => Or.inr (Or.inr (Or.inr (Or.inr ⟨y.1, by rw [y.1]; exact es⟩)))) (Or.inl ⟨rfl, hsA⟩) (fun j y => ⟨by rw [y.2]; exact hk, fun e => k7 (by rw [← y.2]; exact e)⟩) (fun j _ y => n0 y.1.symm) (fun c y => absurd y.2.symm k99) (fun c j y hj => by have := y.2; omega) (PT_fw f g.1 (fun j _ y => n0 y.1.symm) (fun j y => ?_) (fun c y => absurd y.2.symm k99)) (Int.le_refl _) rfl rfl (TG_fw f g.2.2.2.2.1) (fun _ _ _ => rfl), ⟨hP, pr, qv, w0⟩, q1, AR_pR es k99 ar, hsA, e22, ch⟩
  have := g.1.w0.2.2
  rw [y.1] at this
  rw [this] at es
  exact absurd es.2 (by decide)
/-- the statement in hand is at its end -/
theorem MD_end (md : MD R A T w s p0 v S U o) (fs : FS v A T U w (fun _ => none) (fun _ => []) s) (c3 : ∀ c, c / 4 = s → c % 4 < U 33 s → hR v.1 (A 4 c) 3 = some (A 3 (U 34 c))) : GI R A T w (-1) p0 v S U := by
  obtain ⟨g, ⟨hP, pr, qv, w0⟩, q1, ar, hsA, e22, ch⟩ := md
  exact GI_end (z := A 2 s) (X := fun _ _ => False) g hsA pr qv w0 Fw.refl (fun _ _ y => y.elim) rfl (fun _ y => y.elim) (fun _ _ y => y) (fun _ y => y.elim) (fun _ _ y => y.elim) g.1 (Int.le_refl _) rfl rfl g.2.2.2.2.1 (fun _ _ _ => rfl) fs c3
/-- tokens go on -/
theorem MD_q (md : MD R A T w s p0 v S U o) (f : Fw (Xq (R 0) (R 2)) v v') (t' : PT v' (R 0) (R 1) (R 2) (tAdv S)) : MD R A T w s p0 v' (tAdv S) U o := by
  obtain ⟨g, ⟨hP, pr, qv, w0⟩, ⟨d1, s52⟩, ar, hsA, e22, ch⟩ := md
  exact ⟨GI_r g (Xq_r f) t' (tAdv_47 g.1.2.1).1 tAdv_55.1 tAdv_55.2.1, ⟨PI_adv hP, pr, qv, w0⟩, ⟨by rw [tAdv_55.1]; exact d1, by rw [tAdv_52]; exact s52⟩, AR_q f g ar, hsA, by rw [tAdv_55.1, tAdv_55.2.1]; exact e22, CH_t ch⟩
theorem wc24 : wN (cT 24) = wElse := rfl
theorem st_if (blc : BLC r R w p0) (hd : HD R Ah Th w p0 vh S Uh o) (cr : CR h v) (md : MD R A T w s p0 v S U o) (cx : CX R w (S 56 (S 55 0 - 1)) Ah Th vh Uh A T v U 20 340) (hs : s = w * 120 + Uh 19 w) (e19 : U 19 w = Uh 19 w + 1) (u20 : U 20 s = 0) (u33 : U 33 s = 0) (u30 : U 30 s = 0) (u28 : U 28 s = -1) (no : ∀ c, Ab w U c → U 42 c ≠ s) (ea : A 2 s = a)
    (na : hN vh.1 ≤ a) (ka : hK v.1 a = 33) (k6 : hR v.1 a 6 = none) (hr : 9 - S 55 0 ≤ r) (st : tStep w S Uh = tOpn w 2 s 0 27 s (tAdv S) (up U 20 s 4))
    (q1 : ∀ h' v' A' T' S' U', CR h' v' → SX R w 20 300 Ah Th vh S Uh A' T' v' S' U' → HD R A' T' w p0 v' S' U' o → tGo w (S, Uh) (S', U') → S 49 0 < S' 49 0 → S' 55 0 = S 55 0 → (∀ i, i < S 55 0 → S' 56 i = S 56 i) → NWs w Uh U' (S 56 (S 55 0 - 1)) → Q (Sum.inl (some (vR (some (A' 2 (w * 120 + Uh 19 w)))))) h')
    (q2 : ∀ h' v' p, CR h' v' → WX R Th vh v' S (20 - 2 * S 55 0) p → doom w (S, Uh) p → Q (Sum.inr (R 2)) h') :
    Rn (r + 1) 175 133 [some (vR (some (R 0))), some (vR o), l2, some (vR (some a)), l4, l5, l6, l7, l8, l9, l10, l11, l12] [] h Q := by
  have hd' := hd
  obtain ⟨gh, ⟨hPh, prh, qvh, w0⟩, ⟨d1, s52⟩, arh⟩ := hd
  have n19 := hPh.2.2.2.2.2.1
  have si0 := hPh.1
  have d8 := si0.2.2.2.2.2.2.2
  have a47 := tAdv_47 si0
  have e521 : tAdv S 52 0 = -1 := by rw [tAdv_52]; exact s52
  have e551 : tAdv S 55 0 = S 55 0 := by rw [tAdv_55.1]
  have e481 : tAdv S 48 0 = S 48 0 := by rw [tAdv_55.2.2.1]
  have mo := more_of (S := S) s52 (Or.inl (by omega))
  have dm : ∀ p, doom w (tOpn w 2 s 0 27 s (tAdv S) (up U 20 s 4)) p → doom w (S, Uh) p := fun p y => doom_step s52 (Or.inl (by omega)) (by rw [st]; exact y)
  obtain ⟨md, cx⟩ := MD_sort md cx (by omega) n19.1 u20 (k := 4) (by omega) no u33 u30 (fun z => by omega)
  generalize hU : up U 20 s 4 = U' at *
  have u20' : U' 20 s = 4 := by rw [← hU, up_s]
  have u33' : U' 33 s = 0 := by rw [← hU, up_n (by decide)]; exact u33
  have u28' : U' 28 s = -1 := by rw [← hU, up_n (by decide)]; exact u28
  refine st_next d1 cr md cx ka (by decide) (by decide) (fun z h1 v1 c1 md1 cx1 f1 fa1 ka1 => ?_) (fun z h1 v1 c1 wx => q2 h1 v1 _ c1 wx (dm _ (doom_opn e521 (SI_adv si0) (fun p => by have := (tIsO_iff.mp p).1; omega) (fun _ => rfl))))
  have k01 := md1.1.1.w0.1
  have kr1 := c1.kk k01 (by decide)
  have arm := md1.2.2.2.1
  have hsA := md1.2.2.2.2.1
  have pr := md1.2.1.2.1
  have qv := md1.2.1.2.2.1
  rw [dsp_33 (c1.kk ka1 (by decide)), sX1_statement_244, sX1_statement_246, sX1_statement_247, sX1_statement_248 kr1]
  refine own_md (what := 2) (num := 0) (f := 27) (i := s) (Sh := S) blc c1 md1 (by omega) ⟨by decide, fun z => absurd z (by decide)⟩ cx1 (by omega) n19.1 (by omega) (fun p => ?_) (fun p hx => AR_in pr qv hsA w0.1 p (by omega) (by decide) (by decide) hx arm)
    (fun p h2 v2 A2 T2 S2 U2 c2 md2 cx2 ae2 ts2 mf2 fu2 hsB go2 n51 x55 x56 e48 lt fb2 ⟨e41, e42⟩ ⟨w20, w33, w30, _, _, ab2⟩ => ?_) (by omega) (by omega) e551 e481 (fun h' v' p c' wx y => ?_)
  · have y := And.intro (PI_step (w := w) hPh) (And.intro (PR_step hPh w0.1 qvh prh) (QV_step hPh w0 qvh))
    rw [st] at y
    exact y
  · obtain ⟨o1, o2, o3, o4, o5, o6⟩ := oU_v (w := w) (what := 2) (own := s) (num := 0) (f := 27) (i := s) (U := U') p (by decide)
    have a2 : A2 2 s = a := by rw [(ae2.1 s hsA).1]; exact ea
    have ka2 := mf2.kk ka1 (by decide)
    have nx := Xb_no (a := a) md1.1 (by rw [ka1]; decide)
    have i6 : hR v2.1 a 6 = none := by rw [(mf2.ff (hK_lt ka1 (by decide)) (nx 6)).2.2, (fa1 6).2.2]; exact k6
    have w27 : U2 27 s = w * 1024 + U' 40 w := by rw [fu2.fs hsB (by decide) (by decide) (by decide)]; exact o6
    have w28 : U2 28 s = -1 := by rw [fu2.fs hsB (by decide) (by decide) (by decide), oU_o (by decide) (by decide)]; exact u28'
    rw [Kt_v, sX1_statement_251 (c2.kk ka2 (by decide)), sX1_statement_254, sX1_statement_255]
    have c3 := CR_pR (k := 5) (z := some (A2 3 (w * 1024 + U' 40 w))) c2 ka2 rfl
    have md3 := MD_pR (k := 5) (z := some (A2 3 (w * 1024 + U' 40 w))) md2 (by decide) (fun z => absurd z (by decide)) (by decide)
    rw [a2] at md3
    have cx3 := cx2.pR (e := a) (k := 5) (z := some (A2 3 (w * 1024 + U' 40 w))) na
    have ka3 : hK (vpR v2 a 5 (some (A2 3 (w * 1024 + U' 40 w)))).1 a = 33 := ka2
    have r5 : hR (vpR v2 a 5 (some (A2 3 (w * 1024 + U' 40 w)))).1 a 5 = some (A2 3 (w * 1024 + U' 40 w)) := by rw [vpR_1, hR_putR, if_pos ⟨rfl, rfl⟩]
    have r6 : hR (vpR v2 a 5 (some (A2 3 (w * 1024 + U' 40 w)))).1 a 6 = none := by rw [vpR_1, hR_putR, if_neg (fun y => absurd y.2 (by decide))]; exact i6
    generalize (vpR v2 a 5 (some (A2 3 (w * 1024 + U' 40 w)))) = v3 at *
    generalize (putR h2 a 5 (some (A2 3 (w * 1024 + U' 40 w)))) = h3 at *
    have k03 := md3.1.1.w0.1
    have hs3 := md3.2.2.2.2.1
    have g02 : tGo w (S, Uh) (tShut w (w * 1024 + U' 40 w) S2 U2) := tGo_trans (tGo_one mo) (by rw [st]; exact go2)
    have sh : tShut w (w * 1024 + U' 40 w) S2 U2 = if S2 50 0 = wElse then tOpn w 3 s 0 28 s (tAdv S2) U2 else (S2, U2) := by
      unfold tShut
      rw [e41, e42, if_neg (by decide), if_pos rfl]
    rw [sX1_statement_258 (c3.kk k03 (by decide)), c3.he, t_isWord c3 md3.1.1 (by decide) (by unfold lts cT; decide) (by unfold cT; decide), Kt_v, sX1_statement_261, i_0, wc24]
    have e22m := md3.2.2.2.2.2.1
    by_cases ie : S2 50 0 = wElse
    · rw [if_neg (fun y => (bI_0.mp y) ie), sX1_statement_264, sX1_statement_265 (c3.kk k03 (by decide))]
      rw [if_pos ie] at sh
      rw [sh] at g02
      have s52_2 := md3.2.2.1.2
      have e522 : tAdv S2 52 0 = -1 := by rw [tAdv_52]; exact s52_2
      have si2 := md3.1.1.2.1
      have b47 := tAdv_47 si2
      have dm2 : ∀ p, doom w (tOpn w 3 s 0 28 s (tAdv S2) U2) p → doom w (S, Uh) p := fun p y => doom_go g02 y
      refine t_next c3 md3.1.1 (fun z4 h4 v4 c4 f4 t4 n4 s04 s4 _ => ?_) (fun z4 h4 v4 c4 wg => ?_)
      · have md4 := MD_q md3 f4 t4
        have cx4 : CX R w (S 56 (S 55 0 - 1)) Ah Th vh Uh A2 T2 v4 U2 _ _ := ⟨cx3.1.q f4 md3.1.k9 n4 s04 s4, cx3.2⟩
        have na0 : a ≠ R 0 := fun e => by rw [← e, ka3] at k03; exact absurd k03 (by decide)
        have na2 : a ≠ R 2 := fun e => by have := md3.1.1.w0.2.1; rw [← e, ka3] at this; exact absurd this (by decide)
        have fa4 := fun j => f4.ff (k := j) (hK_lt ka3 (by decide)) (fun y => by rcases y with y | y; exact na0 y.1; exact na2 y.1)
        have ka4 := f4.kk ka3 (by decide)
        have hsA4 := md4.2.2.2.2.1
        rw [Kt_0, sX1_statement_268, sX1_statement_270, sX1_statement_271, sX1_statement_272 (c4.kk md4.1.1.w0.1 (by decide))]
        have P2 := And.intro (tGo_PI g02 hPh) (And.intro (tGo_PR g02 w0 hPh qvh prh) (tGo_QV g02 w0 hPh qvh))
        refine own_md (what := 3) (num := 0) (f := 28) (i := s) (Sh := S) blc c4 md4 (by rw [tAdv_55.1]; omega) ⟨by decide, fun z => absurd z (by decide)⟩ cx4 (by omega) n19.1 (by omega) (fun _ => P2) (fun p hx => AR_in md4.2.1.2.1 md4.2.1.2.2.1 hsA4 w0.1 p (by omega) (by decide) (by decide) hx md4.2.2.2.1)
          (fun p5 h5 v5 A5 T5 S5 U5 c5 md5 cx5 ae5 ts5 mf5 fu5 hsB5 go5 n515 x555 x565 e485 lt5 fb5 ⟨e415, e425⟩ ⟨y20, y33, _, _, _, ab5⟩ => ?_) (by omega) (by omega) (by rw [tAdv_55.1]; omega) (by rw [tAdv_55.2.2.1]; omega) (fun h' v' p c' wx y => ?_)
        · obtain ⟨o15, o25, o35, o45, o55, o65⟩ := oU_v (w := w) (what := 3) (own := s) (num := 0) (f := 28) (i := s) (U := U2) p5 (by decide)
          have a5 : A5 2 s = a := by rw [(ae5.1 s hsA4).1]; exact a2
          have ka5 := mf5.kk ka4 (by decide)
          have nx5 := Xb_no (a := a) md4.1 (by rw [ka4]; decide)
          have i55 : hR v5.1 a 5 = some (A2 3 (w * 1024 + U' 40 w)) := by rw [(mf5.ff (hK_lt ka4 (by decide)) (nx5 5)).2.2, (fa4 5).2.2]; exact r5
          have b3 : A5 3 (w * 1024 + U' 40 w) = A2 3 (w * 1024 + U' 40 w) := ae5.2.1 _ ab2
          have y27 : U5 27 s = w * 1024 + U' 40 w := by rw [fu5.fs hsB5 (by decide) (by decide) (by decide), oU_o (by decide) (by decide)]; exact w27
          have y28 : U5 28 s = w * 1024 + U2 40 w := by rw [fu5.fs hsB5 (by decide) (by decide) (by decide)]; exact o65
          have nb2 : 0 ≤ U2 40 w := md4.2.1.2.1.2.1
          have nb1 : 0 ≤ U' 40 w := pr.2.1
          have z20 : U5 20 s = 4 := by rw [y20, w20]; exact u20'
          have z33 : U5 33 s = 0 := by rw [y33, w33]; exact u33'
          rw [Kt_v, sX1_statement_275 (c5.kk ka5 (by decide)), sX1_statement_278, sX1_statement_432, sX1_statement_433]
          have c6 := CR_pR (k := 6) (z := some (A5 3 (w * 1024 + U2 40 w))) c5 ka5 rfl
          have md6 := MD_pR (k := 6) (z := some (A5 3 (w * 1024 + U2 40 w))) md5 (by decide) (fun z => absurd z (by decide)) (by decide)
          rw [a5] at md6
          have G6 := MD_end md6 (by
            unfold FS
            rw [z20, y27, y28, a5, b3]
            refine ⟨fun z => by omega, fun z => by omega, fun z => by omega, fun z => by omega, fun _ => ⟨ka5, ?_, ?_⟩, fun z => by omega, fun z => by omega, fun z => by omega, fun z => by omega, fun z => by omega, fun _ => by omega⟩
            · rw [vpR_1, hR_putR, if_neg (fun y => absurd y.2 (by decide))]
              exact i55
            · rw [vpR_1, hR_putR, if_pos ⟨rfl, rfl⟩, optA_s (by omega)]) (fun c e hr => by rw [z33] at hr; omega)
          have cx6 := cx5.pR (e := a) (k := 6) (z := some (A5 3 (w * 1024 + U2 40 w))) na
          have ar6 := md6.2.2.2.1
          have e226 := md6.2.2.2.2.2.1
          have t55 : S5 55 0 = S 55 0 := by rw [x555, tAdv_55.1]; omega
          have t56 : ∀ i, i < S 55 0 → S5 56 i = S 56 i := fun i hi => by rw [x565 i (by rw [tAdv_55.1]; omega), tAdv_55.2.1, x56 i (by omega), tAdv_55.2.1]
          rw [e226, t55, t56 _ (by omega)] at ar6
          have sh5 : tShut w (w * 1024 + U2 40 w) S5 U5 = (S5, U5) := by
            unfold tShut
            rw [e415, if_neg (by decide), if_neg (by decide), if_neg (by decide), if_neg (by decide), if_neg (by decide)]
          rw [sh5] at go5
          have go6 : tGo w (tStep w S Uh) (S5, U5) := by
            rw [st]
            refine tGo_trans go2 ?_
            rw [sh]
            exact go5
          have q48 : S5 48 0 = S 48 0 := by rw [e485, tAdv_55.2.2.1]; omega
          have fin := st_fin hd' cx6 c6 G6 go6 md6.2.2.1.2 t55 t56 q48 ar6 (by omega) (by omega) (by omega) q1
          rw [← hs, a5] at fin
          exact fin
        · rw [Kt_x]
          exact q2 h' v' p c' wx (dm2 p y)
      · rw [Kt_x]
        have le3 := md3.1.1.le
        refine q2 h4 v4 _ c4 ((Wg_X (k := 1) md3.1 md3.2.1.2.2.1 wg (by omega) (by omega) le3).pre' cx3.1 cx3.2.2.1 (by omega) (by omega) (by omega)) (dm2 _ (doom_opn e522 (SI_adv si2) (fun p => by have := (tIsO_iff.mp p).1; omega) (fun _ => rfl)))
    · rw [if_pos (bI_0.mpr ie), sX1_statement_432, sX1_statement_433]
      rw [if_neg ie] at sh
      have nb1 : 0 ≤ U' 40 w := pr.2.1
      have z20 : U2 20 s = 4 := by rw [w20]; exact u20'
      have z33 : U2 33 s = 0 := by rw [w33]; exact u33'
      have G4 := MD_end md3 (by
        unfold FS
        rw [z20, w27, w28, a2]
        exact ⟨fun z => by omega, fun z => by omega, fun z => by omega, fun z => by omega, fun _ => ⟨ka3, r5, r6⟩, fun z => by omega, fun z => by omega, fun z => by omega, fun z => by omega, fun z => by omega, fun _ => by omega⟩) (fun c e hr => by rw [z33] at hr; omega)
      have ar4 := md3.2.2.2.1
      have t55 : S2 55 0 = S 55 0 := by omega
      have t56 : ∀ i, i < S 55 0 → S2 56 i = S 56 i := fun i hi => by rw [x56 i (by omega), tAdv_55.2.1]
      rw [e22m, t55, t56 _ (by omega)] at ar4
      have fin := st_fin hd' cx3 c3 G4 (by rw [st, ← sh]; exact go2) md3.2.2.1.2 t55 t56 (by omega) ar4 (by omega) (by omega) (by omega) q1
      rw [← hs, a2] at fin
      exact fin
  · rw [Kt_x]
    exact q2 h' v' p c' wx (dm p y)
end IFS
