/-! COMPONENT, 79: try, from head to head *-/
section TRM
variable {r a m5 m6 m7 m9 : Nat} {h : am_H} {R : Nat → Nat} {A Ah : Nat → Int → Nat} {T Th : Nat → Nat} {w s p0 : Int} {v vh : vT} {S Uh U : tSt} {o : Option Nat} {Q : am_O → am_H → Prop} {l2 l4 l5 l6 l7 l8 l9 l10 l11 l12 : Option am_V}
theorem st_try (blc : BLC r R w p0) (hd : HD R Ah Th w p0 vh S Uh o) (cr : CR h v) (md : MD R A T w s p0 v S U o) (cx : CX R w (S 56 (S 55 0 - 1)) Ah Th vh Uh A T v U 20 340) (hs : s = w * 120 + Uh 19 w) (e19 : U 19 w = Uh 19 w + 1) (u20 : U 20 s = 0) (u33 : U 33 s = 0) (u30 : U 30 s = 0) (u29 : U 29 s = -1) (ea : A 2 s = a)
    (na : hN vh.1 ≤ a) (ka : hK v.1 a = 36) (fk : hR v.1 a 5 = some m5 ∧ hR v.1 a 6 = some m6 ∧ hR v.1 a 7 = some m7 ∧ hR v.1 a 9 = some m9 ∧ hR v.1 a 10 = none) (kl : hK v.1 m5 = 4 ∧ hK v.1 m6 = 4 ∧ hK v.1 m7 = 4 ∧ hK v.1 m9 = 4) (vl : vLs v m5 = [] ∧ vLs v m6 = [] ∧ vLs v m7 = [] ∧ vLs v m9 = []) (tt : T m5 = 4 ∧ T m6 = 4 ∧ T m7 = 4 ∧ T m9 = 4) (nd : m5 ≠ m6 ∧ m7 ≠ m5 ∧ m7 ≠ m6 ∧ m9 ≠ m5 ∧ m9 ≠ m6 ∧ m9 ≠ m7) (lsh : hN vh.1 ≤ m5 ∧ hN vh.1 ≤ m6 ∧ hN vh.1 ≤ m7 ∧ hN vh.1 ≤ m9)
    (hr : 9 - S 55 0 ≤ r) (st : tStep w S Uh = tTry w s (tAdv S) (up U 20 s 9))
    (q1 : ∀ h' v' A' T' S' U', CR h' v' → SX R w 20 300 Ah Th vh S Uh A' T' v' S' U' → HD R A' T' w p0 v' S' U' o → tGo w (S, Uh) (S', U') → S 49 0 < S' 49 0 → S' 55 0 = S 55 0 → (∀ i, i < S 55 0 → S' 56 i = S 56 i) → NWs w Uh U' (S 56 (S 55 0 - 1)) → Q (Sum.inl (some (vR (some (A' 2 (w * 120 + Uh 19 w)))))) h')
    (q2 : ∀ h' v' p, CR h' v' → WX R Th vh v' S (20 - 2 * S 55 0) p → doom w (S, Uh) p → Q (Sum.inr (R 2)) h') :
    Rn (r + 1) 175 133 [some (vR (some (R 0))), some (vR o), l2, some (vR (some a)), l4, l5, l6, l7, l8, l9, l10, l11, l12] [] h Q := by
  have hd' := hd
  obtain ⟨gh, ⟨hPh, prh, qvh, w0⟩, ⟨d1, s52⟩, arh, chh⟩ := hd
  have tzh := gh.2.2.2.2.1.2
  have n19 := hPh.2.2.2.2.2.1
  have si0 := hPh.1
  have d8 := si0.2.2.2.2.2.2.2
  have a47 := tAdv_47 si0
  have si1 := SI_adv si0
  have tk1 := TK_adv si0.1
  have e521 : tAdv S 52 0 = -1 := by rw [tAdv_52]; exact s52
  have e551 : tAdv S 55 0 = S 55 0 := by rw [tAdv_55.1]
  have e561 : tAdv S 56 = S 56 := tAdv_55.2.1
  have e481 : tAdv S 48 0 = S 48 0 := by rw [tAdv_55.2.2.1]
  have le1 : tAdv S 47 0 ≤ S 48 0 := by have := si1.1.2.1; omega
  have mo := more_of (S := S) s52 (Or.inl (by omega))
  have g1 : tGo w (S, Uh) (tTry w s (tAdv S) (up U 20 s 9)) := by rw [← st]; exact tGo_one mo
  have dm : ∀ p, doom w (tTry w s (tAdv S) (up U 20 s 9)) p → doom w (S, Uh) p := fun p y => doom_go g1 y
  refine st_next d1 cr md cx ka (by decide) (by decide) (fun z h1 v1 c1 md1 cx1 f1 fa1 ka1 => ?_) (fun z h1 v1 c1 wx => q2 h1 v1 _ c1 wx (dm _ ?_))
  · have k01 := md1.1.1.w0.1
    have k21 := md1.1.1.w0.2.1
    have kr1 := c1.kk k01 (by decide)
    have g61 := md1.1.2.2.2.2.2.1
    have k12 := g61.2.2.2.1.2.1
    have n19m := md1.2.1.1.2.2.2.2.2.1
    have ln12 : (vLs v1 (R 12)).length ≤ 120 := by rw [g61.2.2.2.1.2.2, List.length_map]; exact stL_len n19m
    have n912 : R 9 ≠ R 12 := g61.2.2.2.2.2.2.2.1.2.2.2.2.2.2.2.2.1
    have t12 : T (R 12) = 3 := g61.2.2.2.2.2.2.1.2.2.2.2.1
    rw [dsp_36 (c1.kk ka1 (by decide)), sX1_statement_367, sX1_statement_368, sX1_statement_370, sX1_statement_371 kr1, eX1_tried, sX1_tried_0, sX1_tried_1 kr1, c1.rr k01 rfl, g61.2.2.2.1.1, sX1_tried_4, sX1_tried_5 (c1.kk k12 (by decide))]
    refine v_add c1 k12 (z := some a) ⟨by rw [ka1]; decide, by rw [ka1]; decide⟩ (by omega) (fun h2 n' s' c' c2 gw => ?_)
    obtain ⟨w1, w2, w3, w4, w5, w6, w7, w8⟩ := grw_b gw (c1.cp k12)
    have f2 : Fw (fun b k => b = R 12 ∧ k = 99) v1 (vsL (vbm v1 n' s') (R 12) (vLs v1 (R 12) ++ [some a]) c') := (Fw.refl.bm w1).sL (Or.inr ⟨rfl, rfl⟩)
    have ls2 : vLs (vsL (vbm v1 n' s') (R 12) (vLs v1 (R 12) ++ [some a]) c') (R 12) = vLs v1 (R 12) ++ [some a] := by rw [vLs_sL, if_pos rfl]
    have n2 : hN (vsL (vbm v1 n' s') (R 12) (vLs v1 (R 12) ++ [some a]) c').1 = n' := rfl
    have s2 : hS (vsL (vbm v1 n' s') (R 12) (vLs v1 (R 12) ++ [some a]) c').1 = s' := rfl
    generalize (vsL (vbm v1 n' s') (R 12) (vLs v1 (R 12) ++ [some a]) c') = v2 at *
    have cp2 : vCp v2 (R 9) = vCp v1 (R 9) := (f2.cc (hK_lt md1.1.k9 (by decide)) (fun y => n912 y.1)).2.2.1
    obtain ⟨md2, cx2⟩ := MD_try (n := 1) (m := 250) md1 cx1 (by omega) (by omega) (by omega) n19.1 u20 u33 f2 (by rw [ea]; exact ls2) ⟨by omega, by omega, by omega, by omega, by omega⟩
    generalize hU : up U 20 s 9 = U' at *
    have u20' : U' 20 s = 9 := by rw [← hU, up_s]
    have u33' : U' 33 s = 0 := by rw [← hU, up_n (by decide)]; exact u33
    have u30' : U' 30 s = 0 := by rw [← hU, up_n (by decide)]; exact u30
    have u29' : U' 29 s = -1 := by rw [← hU, up_n (by decide)]; exact u29
    have xq1 : ∀ b k, Xq (R 0) (R 2) b k → (hK v.1 b = 2 ∨ hK v.1 b = 3) ∧ k ≠ 99 := fun b k y => by
      rcases y with y | y
      · exact ⟨Or.inl (by rw [y.1]; exact md.1.1.w0.1), by omega⟩
      · exact ⟨Or.inr (by rw [y.1]; exact md.1.1.w0.2.1), by omega⟩
    have F2 : Fw (fun b k => Xq (R 0) (R 2) b k ∨ (b = R 12 ∧ k = 99)) v v2 := (f1.mono (fun _ _ y => Or.inl y)).trans (f2.mono (fun _ _ y => Or.inr y))
    have fl : ∀ {b : Nat}, hK v.1 b = 4 → T b = 4 → hK v2.1 b = 4 ∧ vLs v2 b = vLs v b := fun {b} e t => ⟨F2.kk e (by decide), (F2.cc (hK_lt e (by decide)) (fun y => by
      rcases y with y | y
      · exact (xq1 _ _ y).2 rfl
      · rw [y.1] at t; omega)).1⟩
    obtain ⟨e5, v5⟩ := fl kl.1 tt.1
    obtain ⟨e6, v6⟩ := fl kl.2.1 tt.2.1
    obtain ⟨e7, v7⟩ := fl kl.2.2.1 tt.2.2.1
    obtain ⟨e9, v9⟩ := fl kl.2.2.2 tt.2.2.2
    have ka2 := f2.kk ka1 (by decide)
    have fa2 := fun j => f2.ff (k := j) (hK_lt ka1 (by decide)) (fun y => by have := y.1; rw [this, k12] at ka1; exact absurd ka1 (by decide))
    have fa : ∀ j, hR v2.1 a j = hR v.1 a j := fun j => by rw [(fa2 j).2.2, (fa1 j).2.2]
    have tn2 : TN v2 m5 m6 [] := ⟨⟨e5, e6⟩, ⟨by rw [v5, vl.1]; rfl, by rw [v6, vl.2.1]; rfl⟩, fun i hi => absurd hi (Nat.not_lt_zero _), fun i hi => absurd hi (Nat.not_lt_zero _)⟩
    have k02 := md2.1.1.w0.1
    have k22 := md2.1.1.w0.2.1
    have kr2 := c2.kk k02 (by decide)
    have s51 := md2.1.1.2.1.2.2.2.1
    have i6 : hI h2 (R 0) 6 = iI (tAdv S 51 0) := by rw [c2.ii k02 rfl]; exact md2.1.1.1.2.2.2.1
    have i40 : iI (tAdv S 51 0) = iI 40 ↔ tAdv S 51 0 = 40 := iI_eq (by omega) (by omega) (by omega) (by omega)
    -- the end
    have fin : ∀ (P : tSt × tSt), tGo w (tTry w s (tAdv S) U') P → ∀ h' v' A' T' S' U3, CR h' v' → GI R A' T' w (-1) p0 v' S' U3 → CX R w (S 56 (S 55 0 - 1)) Ah Th vh Uh A' T' v' U3 (300 * (S' 47 0 - S 47 0) - 20) (2000 * (S' 47 0 - S 47 0) - 300) → A' 2 s = a → tGo w P (S', U3) → AR v' A' U3 (U3 22 s + 2).toNat (U3 22 s) o → U3 22 s = S' 56 (S' 55 0 - 1) → S' 52 0 = -1 → S' 55 0 = S 55 0 → (∀ i, i < S 55 0 → S' 56 i = S 56 i) → S' 48 0 = S 48 0 → S 47 0 ≤ S' 47 0 → Kt (r + 1) 175 374 [some (vR (some (R 0))), some (vR o), l2, some (vR (some a)), l4, l5, l6, l7, l8, l9, some (vR (some a)), l11, l12] [] Q (Sum.inl none) h' := fun P gP h' v' A' T' S' U3 c' G' x' ea' go' ar' e22' s52' y55 y56 y48 y47 => by
      rw [Kt_0, sX1_statement_374, sX1_statement_432, sX1_statement_433]
      rw [e22', y55, y56 _ (by omega)] at ar'
      have fin := st_fin hd' x' c' G' (by rw [st]; exact tGo_trans gP go') s52' y55 y56 y48 ar' y47 (Int.le_refl _) (Int.le_refl _) q1
      rw [← hs, ea'] at fin
      exact fin
    rw [Kt_v, sX1_tried_8, sX1_tried_9, sX1_tried_10 kr2, i6, sX1_tried_13, sX1_tried_15, i_40]
    by_cases x40 : tAdv S 51 0 = 40
    · rw [if_neg (fun y => y (i40.mpr x40))]
      have TT := tTry_n (w := w) u30' x40
      have ST := tLs_st (sp := 44) 5 0 (tAdv S) rfl (by decide) si1 tk1 e521
      have TK := tLs_tks (sp := 44) 5 0 (tAdv S) si1 tk1
      have kaf : ∀ v3 : vT, Fw (XY R m5 m6) v2 v3 → hK v3.1 a = 36 ∧ hR v3.1 a 5 = some m5 ∧ hR v3.1 a 6 = some m6 := fun v3 f => by
        have nx : ∀ j, ¬ XY R m5 m6 a j := fun j y => by
          rcases y with (y | y) | y
          · rw [y.1, k02] at ka2; exact absurd ka2 (by decide)
          · rw [y.1, k22] at ka2; exact absurd ka2 (by decide)
          · rcases y.1 with q | q
            · rw [q, e5] at ka2; exact absurd ka2 (by decide)
            · rw [q, e6] at ka2; exact absurd ka2 (by decide)
        have ff := fun j => f.ff (k := j) (hK_lt ka2 (by decide)) (nx j)
        exact ⟨f.kk ka2 (by decide), by rw [(ff 5).2.2, fa 5]; exact fk.1, by rw [(ff 6).2.2, fa 6]; exact fk.2.1⟩
      refine tr_loop (v := v2) kaf nd.1 tt.1 tt.2.1 lsh.1 lsh.2.1 5 [] (tAdv S) h2 v2 _ _ (by decide) rfl c2 Fw.refl md2 cx2 tn2 ?_ ?_
      · rw [List.length_nil, List.nil_append]
        intro ok n51 h3 v3 c3 F3 md3 cx3 tn3
        rw [if_pos ok] at TT
        generalize hL : tLs 44 0 5 (tAdv S) = L at *
        generalize hX : L.2.1 = X at *
        generalize hN' : L.2.2 = N at *
        obtain ⟨i1, i2, i3, i4, i5, i6', i7, i8, i9⟩ := ST
        have x52 := i1 ok
        have x48 : X 48 0 = S 48 0 := by rw [i7]; exact e481
        have xle : X 47 0 ≤ S 48 0 := by have := i3.1.2.1; omega
        have b47 := tAdv_47 i3
        have k03 := md3.1.1.w0.1
        have h55 : X 55 = S 55 := by rw [TK.2.2.2.1 55 (by decide) (by decide) (by decide) (by decide) (by decide) (by decide) (by decide)]; exact tAdv_55.1
        have h56 : X 56 = S 56 := by rw [TK.2.2.2.1 56 (by decide) (by decide) (by decide) (by decide) (by decide) (by decide) (by decide)]; exact tAdv_55.2.1
        have wgx : ∀ h' v' p, CR h' v' → Wg (R 0) (R 2) 0 0 v3 v' p → doom w (tTry w s (tAdv S) U') p → Q (Sum.inr (R 2)) h' := fun h' v' p c' wg dd => q2 h' v' p c' ((Wg_X (k := 1) md3.1 md3.2.1.2.2.1 wg (by omega) (by omega) md3.1.1.le).pre' cx3.1 cx3.2.2.1 (by omega) (by omega) x48) (dm p dd)
        rw [sX1_tried_78, sX1_tried_79, sX1_tried_81 (c3.kk k03 (by decide)), i_41]
        refine t_want c3 md3.1.1 (by omega) (fun y41 z4 h4 v4 c4 f4 t4 n4 s04 s4 _ => ?_) (fun y41 z4 h4 v4 c4 wg => ?_) (fun y41 h4 v4 c4 wg => ?_)
        · rw [if_pos y41] at TT
          have md4 := MD_q md3 f4 t4
          have cx4 : CX R w (S 56 (S 55 0 - 1)) Ah Th vh Uh A T v4 U' _ _ := ⟨cx3.1.q f4 md3.1.k9 n4 s04 s4, cx3.2⟩
          have g2 := g1
          rw [TT] at g2
          have P2 := tGo_QV g2 w0 hPh qvh
          have hNl : N.length ≤ 4 := by omega
          obtain ⟨md5, cx5⟩ := MD_nam (N := N) md4 cx4 (by omega) n19.1 u20' u30' hNl (QV_nw md4.2.1.2.2.1 P2)
          have F4 : Fw (XY R m5 m6) v2 v4 := F3.trans (f4.mono (fun _ _ y => Or.inl y))
          obtain ⟨ka4, r5, r6⟩ := kaf v4 F4
          have nx : ∀ j, ¬ XY R m5 m6 a j := fun j y => by
            rcases y with (y | y) | y
            · rw [y.1, k02] at ka2; exact absurd ka2 (by decide)
            · rw [y.1, k22] at ka2; exact absurd ka2 (by decide)
            · rcases y.1 with q | q
              · rw [q, e5] at ka2; exact absurd ka2 (by decide)
              · rw [q, e6] at ka2; exact absurd ka2 (by decide)
          have ff := fun j => F4.ff (k := j) (hK_lt ka2 (by decide)) (nx j)
          have xm : ∀ b k, Xq (R 0) (R 2) b k → (hK v3.1 b = 2 ∨ hK v3.1 b = 3) ∧ k ≠ 99 := fun b k y => by
            rcases y with y | y
            · exact ⟨Or.inl (by rw [y.1]; exact k03), by omega⟩
            · exact ⟨Or.inr (by rw [y.1]; exact md3.1.1.w0.2.1), by omega⟩
          have tn4 := TN_fw f4 (fun b k y => by have := xm b k y; exact ⟨fun e => absurd e this.2, by omega, by omega, fun e => absurd e this.2⟩) tn3
          have nl4 : ∀ {b : Nat}, hK v2.1 b = 4 → b ≠ m5 → b ≠ m6 → vLs v4 b = vLs v2 b := fun {b} e h5 h6 => (F4.cc (hK_lt e (by decide)) (fun y => by
            rcases y with (y | y) | y
            · omega
            · omega
            · rcases y.1 with q | q
              · exact h5 q
              · exact h6 q)).1
          rw [Kt_0]
          refine tr_body (Sh := S) (N := N) blc hPh prh qvh tzh c4 md5 cx5 (by omega) n19.1 na hNl lsh ea ⟨ka4, r5, r6, by rw [(ff 7).2.2, fa 7]; exact fk.2.2.1, by rw [(ff 9).2.2, fa 9]; exact fk.2.2.2.1, by rw [(ff 10).2.2, fa 10]; exact fk.2.2.2.2⟩ tt ⟨nd.2.2.2.1, nd.2.2.2.2.1, nd.2.2.2.2.2, nd.2.1, nd.2.2.1⟩ tn4 ⟨F4.kk e7 (by decide), by rw [nl4 e7 nd.2.1 nd.2.2.1, v7]; exact vl.2.2.1⟩ ⟨F4.kk e9 (by decide), by rw [nl4 e9 nd.2.2.2.1 nd.2.2.2.2.1, v9]; exact vl.2.2.2⟩
            (by rw [nW_f (by decide) (by decide) (by decide)]; exact u20') (by rw [nW_f (by decide) (by decide) (by decide)]; exact u33') (by rw [nW_f (by decide) (by decide) (by decide)]; exact u29') (by rw [nW_c (by decide) (by decide), if_pos rfl, u30']; omega) (fun i i0 i1 => nW_v u30' i0 i1) g2 (by omega) (by rw [tAdv_55.1, h55]) (fun i hi => by rw [tAdv_55.2.1, h56]) (by rw [tAdv_55.2.2.1]; exact x48) (by omega) (by omega) (by omega) (fin _ (by rw [TT]; exact tGo_refl _)) (fun h' v' p c' wx y => ?_)
          rw [Kt_x]
          exact q2 h' v' p c' wx (dm p (by rw [TT]; exact y))
        · rw [Kt_x, Kt_x]
          rw [if_pos y41] at TT
          refine wgx h4 v4 _ c4 wg ?_
          rw [TT]
          exact doom_opn (by rw [tAdv_52]; exact x52) (SI_adv i3) (fun p => by have := (tIsO_iff.mp p).1; omega) (fun _ => rfl)
        · rw [Kt_x, Kt_x]
          rw [if_neg y41] at TT
          refine wgx h4 v4 _ c4 wg ?_
          rw [TT]
          exact doom_take x52 i3 y41
      · rw [List.length_nil]
        intro h3 v3 p c3 mx i6 cp hp hbad
        obtain ⟨i1, i2, i3, i4, i5, i6', i7, i8, i9⟩ := ST
        rw [Kt_x]
        refine q2 h3 v3 p c3 ⟨mx.le (by omega) (by omega), i6, cp⟩ (dm p ?_)
        rw [TT, hp]
        unfold fP
        by_cases ok : (tLs 44 0 5 (tAdv S)).1 = true
        · rw [if_pos ok, if_pos ok, if_neg (by have := hbad ok; omega)]
          exact doom_take (i1 ok) i3 (by have := hbad ok; omega)
        · rw [if_neg ok, if_neg ok]
          exact ⟨_, tGo_refl _, rfl, i2 ok⟩
    · rw [if_pos (fun y => x40 (i40.mp y))]
      have TT : tTry w s (tAdv S) U' = tOpn w 5 s 0 27 s (tAdv S) U' := by
        unfold tTry
        rw [if_neg x40]
      have g2 := g1
      rw [TT] at g2
      refine tr_body (Sh := S) (N := []) blc hPh prh qvh tzh c2 md2 cx2 (by omega) n19.1 na (by decide) lsh ea ⟨ka2, by rw [fa 5]; exact fk.1, by rw [fa 6]; exact fk.2.1, by rw [fa 7]; exact fk.2.2.1, by rw [fa 9]; exact fk.2.2.2.1, by rw [fa 10]; exact fk.2.2.2.2⟩ tt ⟨nd.2.2.2.1, nd.2.2.2.2.1, nd.2.2.2.2.2, nd.2.1, nd.2.2.1⟩ tn2 ⟨e7, by rw [v7]; exact vl.2.2.1⟩ ⟨e9, by rw [v9]; exact vl.2.2.2⟩
        u20' u33' u29' (by rw [u30']; rfl) (fun i i0 i1 => by rw [List.length_nil] at i1; omega) g2 (by omega) e551 (fun i hi => by rw [e561]) e481 (by omega) (by omega) (by omega) (fin _ (by rw [TT]; exact tGo_refl _)) (fun h' v' p c' wx y => ?_)
      rw [Kt_x]
      exact q2 h' v' p c' wx (dm p (by rw [TT]; exact y))
  · have : tTry w s (tAdv S) (up U 20 s 9) = tOpn w 5 s 0 27 s (tAdv S) (up U 20 s 9) := by
      unfold tTry
      rw [if_neg (by omega)]
    rw [this]
    exact doom_opn e521 si1 (fun p => by have := (tIsO_iff.mp p).1; omega) (fun _ => rfl)
end TRM
