/-! COMPONENT, 62: run *-/
section RN3
variable {r a : Nat} {h : am_H} {R : Nat → Nat} {A Ah : Nat → Int → Nat} {T Th : Nat → Nat} {w s p0 : Int} {v vh : vT} {S Uh U : tSt} {o : Option Nat} {Q : am_O → am_H → Prop} {l2 l4 l5 l6 l7 l8 l9 l10 l11 l12 : Option am_V}
theorem st_run (blc : BLC r R w p0) (hd : HD R Ah Th w p0 vh S Uh o) (cr : CR h v) (md : MD R A T w s p0 v S U o) (cx : CX R w (S 56 (S 55 0 - 1)) Ah Th vh Uh A T v U 20 340) (hs : s = w * 120 + Uh 19 w) (e19 : U 19 w = Uh 19 w + 1) (u20 : U 20 s = 0) (u33 : U 33 s = 0) (u30 : U 30 s = 0) (no : ∀ c, Ab w U c → U 42 c ≠ s) (ea : A 2 s = a)
    (na : hN vh.1 ≤ a) (ka : hK v.1 a = 37) (hr : 9 - S 55 0 ≤ r) (st : tStep w S Uh = tOpn w 8 s 0 27 s (tAdv S) (up U 20 s 10))
    (q1 : ∀ h' v' A' T' S' U', CR h' v' → SX R w 20 300 Ah Th vh S Uh A' T' v' S' U' → HD R A' T' w p0 v' S' U' o → tGo w (S, Uh) (S', U') → S 49 0 < S' 49 0 → S' 55 0 = S 55 0 → (∀ i, i < S 55 0 → S' 56 i = S 56 i) → NWs w Uh U' (S 56 (S 55 0 - 1)) → Q (Sum.inl (some (vR (some (A' 2 (w * 120 + Uh 19 w)))))) h')
    (q2 : ∀ h' v' p, CR h' v' → WX R Th vh v' S (20 - 2 * S 55 0) p → doom w (S, Uh) p → Q (Sum.inr (R 2)) h') :
    Rn (r + 1) 175 133 [some (vR (some (R 0))), some (vR o), l2, some (vR (some a)), l4, l5, l6, l7, l8, l9, l10, l11, l12] [] h Q := by
  have hd' := hd
  obtain ⟨gh, ⟨hPh, prh, qvh, w0⟩, ⟨d1, s52⟩, arh, chh⟩ := hd
  have n19 := hPh.2.2.2.2.2.1
  have si0 := hPh.1
  have d8 := si0.2.2.2.2.2.2.2
  have a47 := tAdv_47 si0
  have e521 : tAdv S 52 0 = -1 := by rw [tAdv_52]; exact s52
  have e551 : tAdv S 55 0 = S 55 0 := by rw [tAdv_55.1]
  have e481 : tAdv S 48 0 = S 48 0 := by rw [tAdv_55.2.2.1]
  have mo := more_of (S := S) s52 (Or.inl (by omega))
  have dm : ∀ p, doom w (tOpn w 8 s 0 27 s (tAdv S) (up U 20 s 10)) p → doom w (S, Uh) p := fun p y => doom_step s52 (Or.inl (by omega)) (by rw [st]; exact y)
  obtain ⟨md, cx⟩ := MD_sort md cx (by omega) n19.1 u20 (k := 10) (by omega) no u33 u30 (fun z => by omega)
  generalize hU : up U 20 s 10 = U' at *
  have u20' : U' 20 s = 10 := by rw [← hU, up_s]
  have u33' : U' 33 s = 0 := by rw [← hU, up_n (by decide)]; exact u33
  have u30' : U' 30 s = 0 := by rw [← hU, up_n (by decide)]; exact u30
  refine st_next d1 cr md cx ka (by decide) (by decide) (fun z h1 v1 c1 md1 cx1 f1 fa1 ka1 => ?_) (fun z h1 v1 c1 wx => q2 h1 v1 _ c1 wx (dm _ (doom_opn e521 (SI_adv si0) (fun p => by have := (tIsO_iff.mp p).1; omega) (fun _ => rfl))))
  have k01 := md1.1.1.w0.1
  have nn := c1.hn
  have fit1 : am_fit 4 (1 : Int32) = true := rfl
  rw [dsp_37 (c1.kk ka1 (by decide)), sX1_statement_390, sX1_statement_393, sX1_statement_394, sX1_statement_395 (by rw [nw_h]; decide) (by rw [nw_h]; decide), c_iAround nw_h, Kt_0, sX1_statement_398, sX1_statement_400, sX1_statement_402, sX1_statement_403 (by rw [hK_putR]; exact nw_h) fit1, sX1_statement_406, sX1_statement_408, sX1_statement_409, sX1_statement_411 (by rw [hK_putI, hK_putR, hK_newC, if_neg (by rw [nn]; have := hK_lt k01 (by decide); omega)]; exact c1.kk k01 (by decide)), nn]
  have c3 := CR_pI (k := 3) (x := (1 : Int32)) (CR_pR (k := 0) (z := o) (CR_nw (m := 20) (n := 5) c1 rfl) nw_k rfl) (by exact nw_k) rfl
  have f3 : Fw (fun _ _ => False) v1 (vpI (vpR (vnw v1 20 5) (hN v1.1) 0 o) (hN v1.1) 3 1) := (Fw.refl.nw.pR (Or.inl (Nat.le_refl _))).pI (Or.inl (Nat.le_refl _))
  have ao := AO_lam (v1 := v1) (o := o)
  have n3 : hN (vpI (vpR (vnw v1 20 5) (hN v1.1) 0 o) (hN v1.1) 3 1).1 = hN v1.1 + 1 := rfl
  have s3 : hS (vpI (vpR (vnw v1 20 5) (hN v1.1) 0 o) (hN v1.1) 3 1).1 = hS v1.1 + 5 := rfl
  generalize (vpI (vpR (vnw v1 20 5) (hN v1.1) 0 o) (hN v1.1) 3 1) = v3 at *
  generalize (putI (putR (newC h1 20 5) (hN v1.1) 0 o) (hN v1.1) 3 1) = h3 at *
  have md3 := MD_0 md1 f3
  have cx3 := CX_0 (n := 1) (m := 5) cx1 f3 md1.1.k9 (by omega) (by omega) (by omega)
  have ka3 := f3.kk ka1 (by decide)
  have hsA := md3.2.2.2.2.1
  have pr := md3.2.1.2.1
  have qv := md3.2.1.2.2.1
  refine own_md (what := 8) (num := 0) (f := 27) (i := s) (Sh := S) blc c3 md3 (by omega) ⟨by decide, fun z => absurd z (by decide)⟩ cx3 (by omega) n19.1 (by omega) (fun p => ?_) (fun p hx => AR_nu pr qv hsA w0.1 p (by decide) (by decide) hx md3.2.2.2.1 (Or.inr (Or.inl ⟨Or.inr rfl, ao⟩)))
    (fun p h4 v4 A4 T4 S4 U4 c4 md4 cx4 ae4 ts4 mf4 fu4 hsB go4 n51 x55 x56 e48 lt fb4 ⟨e41, e42⟩ ⟨w20, w33, w30, w25, w26, ab4⟩ => ?_) (by omega) (by omega) e551 e481 (fun h' v' p c' wx y => ?_)
  · have y := And.intro (PI_step (w := w) hPh) (And.intro (PR_step hPh w0.1 qvh prh) (QV_step hPh w0 qvh))
    rw [st] at y
    exact y
  · obtain ⟨o1, o2, o3, o4, o5, o6⟩ := oU_v (w := w) (what := 8) (own := s) (num := 0) (f := 27) (i := s) (U := U') p (by decide)
    have a4 : A4 2 s = a := by rw [(ae4.1 s hsA).1]; exact ea
    have ka4 := mf4.kk ka3 (by decide)
    have w27 : U4 27 s = w * 1024 + U' 40 w := by rw [fu4.fs hsB (by decide) (by decide) (by decide)]; exact o6
    have nb : 0 ≤ U' 40 w := pr.2.1
    have z20 : U4 20 s = 10 := by rw [w20]; exact u20'
    have z33 : U4 33 s = 0 := by rw [w33]; exact u33'
    have z30 : U4 30 s = 0 := by rw [w30]; exact u30'
    rw [Kt_v, sX1_statement_414 (c4.kk ka4 (by decide)), sX1_statement_417, sX1_statement_419]
    have c5 := CR_pR (k := 5) (z := some (A4 3 (w * 1024 + U' 40 w))) c4 ka4 rfl
    have md5 := MD_pR (k := 5) (z := some (A4 3 (w * 1024 + U' 40 w))) md4 (by decide) (fun z => absurd z (by decide)) (by decide)
    rw [a4] at md5
    have cx5 := cx4.pR (e := a) (k := 5) (z := some (A4 3 (w * 1024 + U' 40 w))) na
    have ka5 : hK (vpR v4 a 5 (some (A4 3 (w * 1024 + U' 40 w)))).1 a = 37 := ka4
    have r55 : hR (vpR v4 a 5 (some (A4 3 (w * 1024 + U' 40 w)))).1 a 5 = some (A4 3 (w * 1024 + U' 40 w)) := by rw [vpR_1, hR_putR, if_pos ⟨rfl, rfl⟩]
    generalize (vpR v4 a 5 (some (A4 3 (w * 1024 + U' 40 w)))) = v5 at *
    generalize (putR h4 a 5 (some (A4 3 (w * 1024 + U' 40 w)))) = h5 at *
    have k05 := md5.1.1.w0.1
    obtain ⟨g51, g52, g53, g54, g55, g56, _, ⟨L0, ga, gb⟩, _⟩ := md5.1
    have len : (insA [] L0).length ≤ 2750 := by
      rw [insA_len, List.length_nil, gb.length_eq]
      have := mPar_len (w := w) md5.2.1.2.2.1
      omega
    have s524 := md5.2.2.1.2
    have si4 := md5.1.1.2.1
    have tk4 := md5.1.1.2.2.1
    have le4 := md5.1.1.le
    have g02 : tGo w (S, Uh) (tShut w (w * 1024 + U' 40 w) S4 U4) := tGo_trans (tGo_one mo) (by rw [st]; exact go4)
    have sh : tShut w (w * 1024 + U' 40 w) S4 U4 = if S4 50 0 = wThrows then (tNam s 59 5 S4 U4).2 else (tTake S4 59, U4) := by
      unfold tShut
      rw [e41, e42, if_neg (by decide), if_neg (by decide), if_pos rfl]
    have tz5 := md5.1.2.2.2.2.1.2
    have hn45 : hN vh.1 ≤ hN v5.1 := cx5.1.1.1
    have tzh : Th (hN v5.1) = 0 := gh.2.2.2.2.1.2 _ hn45
    have t55 : S4 55 0 = S 55 0 := by omega
    have t56 : ∀ i, i < S 55 0 → S4 56 i = S 56 i := fun i hi => by rw [x56 i (by omega), tAdv_55.2.1]
    -- the end: a list of names N was read up to the tokens X
    have tail : ∀ (N : List (Int × Int)) (X : tSt) (n m : Int) (h6 : am_H) (v6 : vT), N.length ≤ 4 → CR h6 v6 → Fw (Xm (R 0) (R 2) (R 9)) v5 v6 → PT v6 (R 0) (R 1) (R 2) X → Tks S4 X → X 52 0 = -1 → S4 47 0 ≤ X 47 0 → X 48 0 = S4 48 0 → ML v6 (R 9) (insA (insA [] L0) (mNs U4 w N)) → NL v6 (A4 0) (hN v5.1) N.length (nK U4 w N) (nP N) → RM (R 9) v5 v6 n m → n ≤ 20 * (X 47 0 - S4 47 0) + 42 → m ≤ 200 * (X 47 0 - S4 47 0) + 405 → tShut w (w * 1024 + U' 40 w) S4 U4 = (tTake X 59, nW 30 31 32 s N U4) →
        Rn (r + 1) 175 423 [some (vR (some (R 0))), some (vR o), l2, some (vR (some a)), l4, l5, l6, l7, l8, l9, l10, some (vR (some a)), some (vR (some (hN v1.1)))] [vR (some (hN v5.1)), vR (some a)] h6 Q := by
      intro N X n m h6 v6 hNl c6 f6 t6 tks x52 x47 x48 ml6 nl6 rm6 hn hm shX
      have ka6 := f6.kk ka5 (by decide)
      have k06 := f6.kk k05 (by decide)
      have PQ7 : PR w (nW 30 31 32 s N U4) ∧ QV (nW 30 31 32 s N U4) := by
        have y1 := tGo_PR g02 w0 hPh qvh prh
        have y2 := tGo_QV g02 w0 hPh qvh
        rw [shX] at y1 y2
        exact ⟨y1, y2⟩
      obtain ⟨c7, md7, cx7, _, fr, r6, nl7⟩ := MD_run (N := N) (l := hN v5.1) (X := X) md5 cx5 (by omega) n19.1 z20 z30 hNl a4 na ka5 c6 f6 t6 tks x52 x47 (Nat.le_refl _) hn45 gb ml6 nl6 rm6 PQ7 tzh
      rw [sX1_statement_423 (c6.kk ka6 (by decide)), sX1_statement_426, sX1_statement_427, sX1_statement_429 (by rw [hK_putR]; exact c6.kk k06 (by decide)), i_59]
      have h55' : X 55 = S4 55 := tks.2.2.2.1 55 (by decide) (by decide) (by decide) (by decide) (by decide) (by decide) (by decide)
      have h56' : X 56 = S4 56 := tks.2.2.2.1 56 (by decide) (by decide) (by decide) (by decide) (by decide) (by decide) (by decide)
      have e20 : nW 30 31 32 s N U4 20 s = 10 := by rw [nW_f (by decide) (by decide) (by decide)]; exact z20
      have e27 : nW 30 31 32 s N U4 27 s = w * 1024 + U' 40 w := by rw [nW_f (by decide) (by decide) (by decide)]; exact w27
      have e33 : nW 30 31 32 s N U4 33 s = 0 := by rw [nW_f (by decide) (by decide) (by decide)]; exact z33
      refine semi hd' c7 md7 cx7 ?_ e33 (by rw [st, ← shX]; exact go4) (by rw [h55']; exact t55) (fun i hi => by rw [h56']; exact t56 i hi) (by omega) hs a4 (by omega) (by omega) (by omega) q1 q2 (fun h' y => by rw [Kt_0, sX1_statement_432, sX1_statement_433]; exact y) (fun h' y => by rw [Kt_x]; exact y)
      unfold FS
      rw [e20, e27, a4]
      refine ⟨fun z => by omega, fun z => by omega, fun z => by omega, fun z => by omega, fun z => by omega, fun z => by omega, fun z => by omega, fun z => by omega, fun _ => ⟨ka6, ?_, hN v5.1, r6, Tst_s, nl7⟩, fun z => by omega, fun _ => by omega⟩
      rw [fr 5 (by decide)]
      exact r55
    rw [sX1_statement_420 (c5.kk k05 (by decide))]
    refine c_throws c5 g51 s524 g52 ga len g53 g54 (fun ne h6 v6 c6 f6 nl6 rm6 => ?_) (fun eq ok n51' h6 v6 c6 f6 t6 nl6 ml6 rm6 => ?_) (fun eq bad h6 v6 c6 fl => ?_)
    · rw [Kt_v]
      rw [if_neg ne] at sh
      refine tail [] S4 2 5 h6 v6 (by decide) c6 (f6.mono (fun _ _ y => y.elim)) (PT_0 f6 g51) (Tks.rf si4 tk4) s524 (Int.le_refl _) rfl ?_ nl6 rm6 (by omega) (by omega) sh
      exact ML_fw f6 ga (fun y => y) (fun _ _ y => y.elim)
    · obtain ⟨i1, i2, i3, i4, i5, i6, i7, i8, i9⟩ := tLs_st (sp := 44) 5 0 S4 rfl (by decide) si4 tk4 s524
      rw [Kt_v]
      have nm := tNam_ls (x := s) 59 5 0 S4 U4 z30
      rw [if_pos ok] at nm
      rw [if_pos eq, nm] at sh
      exact tail (tLs 44 0 5 S4).2.2 (tLs 44 0 5 S4).2.1 _ _ h6 v6 (by omega) c6 f6 t6 (tLs_tks 5 0 S4 si4 tk4) (i1 ok) i8 (by rw [i7]) ml6 nl6 rm6 (Int.le_refl _) (Int.le_refl _) sh
    · obtain ⟨i1, i2, i3, i4, i5, i6, i7, i8, i9⟩ := tLs_st (sp := 44) 5 0 S4 rfl (by decide) si4 tk4 s524
      obtain ⟨w1, w2, w3, L', w4, w5⟩ := fl
      have lX := i3.1.2.1
      rw [i7] at lX
      have t9 := md5.1.2.2.2.2.2.1.2.2.2.2.2.2.1.2.1
      rw [Kt_x]
      refine q2 h6 v6 _ c6 ⟨(cx5.1.fw w1 (fun b k y => ?_) w3).le (by omega) (by omega), w2, by have := w4.2; omega⟩ ?_
      · rcases y with (y | y) | y
        · exact Or.inr (Or.inl ⟨y.1, by omega⟩)
        · exact Or.inr (Or.inr (Or.inl y))
        · by_cases q : b < hN vh.1
          · exact Or.inr (Or.inr (Or.inr (Or.inl ⟨y.2, by rw [← cx5.2.2.1 b q, y.1]; exact Or.inr t9⟩)))
          · exact Or.inl (by omega)
      · refine doom_go g02 ?_
        have nm := tNam_ls (x := s) 59 5 0 S4 U4 z30
        rw [sh, if_pos eq, nm]
        unfold fP
        by_cases ok : (tLs 44 0 5 S4).1 = true
        · rw [if_pos ok, if_pos ok]
          exact doom_take (i1 ok) i3 (by have := bad ok; omega)
        · rw [if_neg ok, if_neg ok]
          exact ⟨_, tGo_refl _, rfl, i2 ok⟩
  · rw [Kt_x]
    exact q2 h' v' p c' wx (dm p y)
end RN3
