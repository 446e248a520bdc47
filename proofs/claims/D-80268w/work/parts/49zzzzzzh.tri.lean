/-! COMPONENT, 75: the end of a try *-/
section TRI
variable {r a e l5 l6 l7 l9 : Nat} {h : am_H} {R : Nat → Nat} {A Ah : Nat → Int → Nat} {T Th : Nat → Nat} {w s b0 p0 c d : Int} {v vh : vT} {S Sh U Uh : tSt} {o : Option Nat} {N : List (Int × Int)} {Q : am_O → am_H → Prop}
/-- a try at its end: its lists are final now -/
theorem TF_end (md : MD R A T w s p0 v S U o) (cx : CX R w b0 Ah Th vh Uh A T v U c d) (tzh : TZ vh Th) (ea : A 2 s = a) (ls : hN vh.1 ≤ l5 ∧ hN vh.1 ≤ l6 ∧ hN vh.1 ≤ l7 ∧ hN vh.1 ≤ l9)
    (fk : hK v.1 a = 36 ∧ hR v.1 a 5 = some l5 ∧ hR v.1 a 6 = some l6 ∧ hR v.1 a 7 = some l7 ∧ hR v.1 a 8 = some (A 3 (U 27 s)) ∧ hR v.1 a 9 = some l9) (f10 : hR v.1 a 10 = optA (A 3) (U 29 s)) (tt : T l5 = 4 ∧ T l6 = 4 ∧ T l7 = 4 ∧ T l9 = 4) (nn : l9 ≠ l5 ∧ l9 ≠ l6 ∧ l9 ≠ l7 ∧ l7 ≠ l5 ∧ l7 ≠ l6) (tn : TN v l5 l6 N) (t7 : hK v.1 l7 = 4 ∧ vLs v l7 = []) (t9 : hK v.1 l9 = 4 ∧ vLs v l9 = rowL (A 4) (4 * s) (U 33 s))
    (cb : ∀ k, 0 ≤ k → k < U 33 s → hR v.1 (A 4 (4 * s + k)) 3 = some (A 3 (U 34 (4 * s + k)))) (u20 : U 20 s = 9) (u27 : U 27 s ≠ -1) (u30 : U 30 s = N.length) (un : ∀ i : Int, 0 ≤ i → i < N.length → U 31 (4 * s + i) = (N.getD i.toNat (0, 0)).1 ∧ U 32 (4 * s + i) = (N.getD i.toNat (0, 0)).2) : ∃ T', GI R A T' w (-1) p0 v S U ∧ CX R w b0 Ah Th vh Uh A T' v U c d := by
  obtain ⟨k1, k2, k3, k4, k5, k6⟩ := fk
  obtain ⟨y5, y6, y7, y9⟩ := tt
  obtain ⟨⟨n1, n2⟩, ⟨n3, n4⟩, n5, n6⟩ := tn
  obtain ⟨g, ⟨hP, pr, qv, w0⟩, q1, ar, hsA, e22, ch⟩ := md
  have tg := Tst_g (k := 1) (Tst_g (k := 7 + a) (Tst_g (k := 1) (Tst_g (k := 1) g.2.2.2.2.1 n1) n2) t7.1) t9.1
  have v1 : ∀ x, Tst (Tst (Tst (Tst T l5 1) l6 1) l7 (7 + a)) l9 1 x = if x = l9 ∨ x = l6 ∨ x = l5 then 1 else if x = l7 then 7 + a else T x := fun x => by
    unfold Tst
    by_cases h9 : x = l9
    · rw [if_pos h9, if_pos (Or.inl h9)]
    · rw [if_neg h9]
      by_cases h7 : x = l7
      · rw [if_pos h7, if_neg (by omega), if_pos h7]
      · rw [if_neg h7]
        by_cases h6 : x = l6
        · rw [if_pos h6, if_pos (Or.inr (Or.inl h6))]
        · rw [if_neg h6]
          by_cases h5 : x = l5
          · rw [if_pos h5, if_pos (Or.inr (Or.inr h5))]
          · rw [if_neg h5, if_neg (by omega), if_neg h7]
  generalize Tst (Tst (Tst (Tst T l5 1) l6 1) l7 (7 + a)) l9 1 = T' at *
  refine ⟨T', ?_, cx.1, ⟨cx.2.1.1, cx.2.1.2.1, cx.2.1.2.2.1, cx.2.1.2.2.2.1, cx.2.1.2.2.2.2.1, fun b h0 h4 => ?_⟩, fun b hb => ?_, cx.2.2.2⟩
  · refine GI_end (z := A 2 s) (X := fun _ _ => False) g hsA pr qv w0 Fw.refl (fun _ _ y => y.elim) rfl (fun _ y => y.elim) (fun _ _ y => y) (fun _ y => y.elim) (fun _ _ y => y.elim) g.1 (Int.le_refl _) rfl rfl tg (fun b h0 h4 => ?_) ?_ (fun c hc hr => ?_)
    · rw [v1, if_neg (fun q => ?_), if_neg (fun q => ?_)]
      · rw [q] at h4; omega
      · rcases q with q | q | q <;> rw [q] at h4 <;> omega
    · unfold FS
      rw [ea, u20]
      refine ⟨fun z => by omega, fun z => by omega, fun z => by omega, fun z => by omega, fun z => by omega, fun z => by omega, fun z => by omega, fun _ => ⟨k1, k5, f10, l5, l6, l7, l9, ⟨by rw [v1, if_pos (by omega)], by rw [v1, if_pos (by omega)], by rw [v1, if_neg (by omega), if_pos rfl], by rw [v1, if_pos (by omega)]⟩, ⟨n1, n2, t7.1, t9.1⟩, ⟨k2, k3, k4, k6⟩, ⟨by rw [n3]; omega, by rw [n4]; omega⟩, fun i i0 i1 => ?_, fun i i0 i1 => ?_, t7.2, t9.2⟩, fun z => by omega, fun z => by omega, fun _ => u27⟩
      · rw [(un i i0 (by omega)).1]
        exact n5 i.toNat (by omega)
      · rw [(un i i0 (by omega)).2]
        exact n6 i.toNat (by omega)
    · have := cb (c % 4) (by omega) hr
      rw [show 4 * s + c % 4 = c by omega] at this
      exact this
  · have hb : b < hN vh.1 := Nat.lt_of_not_le (fun q => h0 (tzh b q))
    rw [v1, if_neg (by omega), if_neg (by omega)]
    exact cx.2.2.1 b hb
  · rw [v1, if_neg (by omega), if_neg (by omega)]
    exact cx.2.2.1 b hb
theorem wc25 : wN (cT 25) = wCatch := rfl
theorem wc26 : wN (cT 26) = wFinally := rfl
/-- a plain thing around a block -/
theorem AO_pl {v1 : vT} : AO (vpR (vnw v1 20 5) (hN v1.1) 0 o) (hN v1.1) o none none false none := by
  refine ⟨nw_k, ?_, ?_, ?_, ?_, ?_⟩
  · rw [vpR_1, hR_putR, if_pos ⟨rfl, rfl⟩]
  · rw [vpR_1, hR_putR, if_neg (fun y => absurd y.2 (by decide)), vnw_1, hR_newC, if_pos rfl]
  · rw [vpR_1, hR_putR, if_neg (fun y => absurd y.2 (by decide)), vnw_1, hR_newC, if_pos rfl]
  · rw [vpR_1, hI_putR, vnw_1, hI_newC, if_pos rfl]
    rfl
  · rw [vpR_1, hR_putR, if_neg (fun y => absurd y.2 (by decide)), vnw_1, hR_newC, if_pos rfl]
/-- what a try reads behind its blocks: the last one -/
theorem tr_fin (blc : BLC r R w p0) (hPh : PI w Sh Uh) (prh : PR w Uh) (qvh : QV Uh) (tzh : TZ vh Th) (cr : CR h v) (md : MD R A T w s p0 v S U o) (cx : CX R w b0 Ah Th vh Uh A T v U (300 * (S 47 0 - Sh 47 0) - 20) (2000 * (S 47 0 - Sh 47 0) - 300)) (hsh : 120 * w + Uh 19 w ≤ s) (n0 : 0 ≤ Uh 19 w) (tf : TF v A T U w s a e o l5 l6 l7 l9 N (U 33 s)) (ea : A 2 s = a) (na : hN vh.1 ≤ a) (hMl : N.length ≤ 4) (ls : hN vh.1 ≤ l5 ∧ hN vh.1 ≤ l6 ∧ hN vh.1 ≤ l7 ∧ hN vh.1 ≤ l9)
    (nc : S 50 0 ≠ wCatch) (g0 : tGo w (Sh, Uh) (tBehind w s false S U)) (hr : 9 - S 55 0 ≤ r) (e55 : S 55 0 = Sh 55 0) (e48 : S 48 0 = Sh 48 0)
    (q1 : ∀ h' v' A' T' S' U', CR h' v' → GI R A' T' w (-1) p0 v' S' U' → CX R w b0 Ah Th vh Uh A' T' v' U' (300 * (S' 47 0 - Sh 47 0) - 20) (2000 * (S' 47 0 - Sh 47 0) - 300) → A' 2 s = a → tGo w (tBehind w s false S U) (S', U') → AR v' A' U' (U' 22 s + 2).toNat (U' 22 s) o → U' 22 s = S' 56 (S' 55 0 - 1) → S' 52 0 = -1 → S' 55 0 = S 55 0 → (∀ i, i < S 55 0 → S' 56 i = S 56 i) → S' 48 0 = S 48 0 → S 47 0 ≤ S' 47 0 → Q (Sum.inl none) h')
    (q2 : ∀ h' v' p, CR h' v' → WX R Th vh v' Sh (20 - 2 * Sh 55 0) p → doom w (tBehind w s false S U) p → Q (Sum.inr (R 2)) h') : Rn (r + 1) 225 185 [some (vR (some (R 0))), some (vR (some a)), some (vR o), some (vR (some e))] [] h Q := by
  have md' := md
  obtain ⟨g, ⟨hP, pr, qv, w0⟩, ⟨d1, s52⟩, ar, hsA, e22, ch⟩ := md
  have tf' := tf
  obtain ⟨⟨k1, k2, k3, k4, k5, k6, k7⟩, tt, nn, tn, t7, t9, ao, ⟨cn, cb⟩, ⟨u1, u2, u3⟩, ⟨u4, u5⟩⟩ := tf
  have k0 := g.1.w0.1
  have kr := cr.kk k0 (by decide)
  have si := g.1.2.1
  have a47 := tAdv_47 si
  have e521 : tAdv S 52 0 = -1 := by rw [tAdv_52]; exact s52
  have e481 : tAdv S 48 0 = S 48 0 := by rw [tAdv_55.2.2.1]
  have e551 : tAdv S 55 0 = S 55 0 := by rw [tAdv_55.1]
  have d8 := si.2.2.2.2.2.2.2
  have le := g.1.le
  have ab27 := u2.1
  have hsA1 := hsA.1
  rw [sX1_tried_185, sX1_tried_186, sX1_tried_189 kr, cr.he, t_isWord cr g.1 (by decide) (by unfold lts cT; decide) (by unfold cT; decide), Kt_v, sX1_tried_192, i_0, wc26]
  by_cases fi : S 50 0 = wFinally
  · rw [if_neg (fun y => (bI_0.mp y) fi), sX1_tried_195, sX1_tried_196 kr]
    have be : tBehind w s false S U = tOpn w 7 s 0 29 s (tAdv S) U := by
      unfold tBehind
      rw [if_neg nc, if_pos fi]
    rw [be] at q1 q2 g0
    refine t_next cr g.1 (fun z h1 v1 c1 f1 t1 n1 s01 s1 _ => ?_) (fun z h1 v1 c1 wg => ?_)
    · have md1 := MD_q md' f1 t1
      have cx1 : CX R w b0 Ah Th vh Uh A T v1 U _ _ := ⟨cx.1.q f1 g.k9 n1 s01 s1, cx.2⟩
      have k01 := md1.1.1.w0.1
      have nn1 := c1.hn
      rw [Kt_0, sX1_tried_199, sX1_tried_200, sX1_tried_201, sX1_tried_204, sX1_tried_205, sX1_tried_206 (by rw [nw_h]; decide) (by rw [nw_h]; decide), c_iAround nw_h, Kt_0, sX1_tried_209 (by rw [hK_putR, hK_newC, if_neg (by rw [nn1]; have := hK_lt k01 (by decide); omega)]; exact c1.kk k01 (by decide)), nn1]
      have c3 := CR_pR (k := 0) (z := o) (CR_nw (m := 20) (n := 5) c1 rfl) nw_k rfl
      have f3 : Fw (fun _ _ => False) v1 (vpR (vnw v1 20 5) (hN v1.1) 0 o) := Fw.refl.nw.pR (Or.inl (Nat.le_refl _))
      have ao3 := AO_pl (v1 := v1) (o := o)
      have n3 : hN (vpR (vnw v1 20 5) (hN v1.1) 0 o).1 = hN v1.1 + 1 := rfl
      have s3 : hS (vpR (vnw v1 20 5) (hN v1.1) 0 o).1 = hS v1.1 + 5 := rfl
      generalize (vpR (vnw v1 20 5) (hN v1.1) 0 o) = v3 at *
      generalize (putR (newC h1 20 5) (hN v1.1) 0 o) = h3 at *
      have md3 := MD_0 md1 f3
      have cx3 := CX_0 (n := 1) (m := 5) cx1 f3 md1.1.k9 (by omega) (by omega) (by omega)
      have P2 := And.intro (tGo_PI g0 hPh) (And.intro (tGo_PR g0 w0 hPh qvh prh) (tGo_QV g0 w0 hPh qvh))
      have hsA3 := md3.2.2.2.2.1
      have F3 : Fw (Xq (R 0) (R 2)) v v3 := f1.trans (f3.mono (fun _ _ y => y.elim))
      have kk2 := g.1.w0.2.1
      have xk : ∀ b k, Xq (R 0) (R 2) b k → (hK v.1 b = 2 ∨ hK v.1 b = 3) ∧ k ≠ 99 := fun b k y => by
        rcases y with y | y
        · exact ⟨Or.inl (by rw [y.1]; exact k0), by omega⟩
        · exact ⟨Or.inr (by rw [y.1]; exact kk2), by omega⟩
      have h33 := QV_b qv (f := 33) (c := 4) rfl rfl rfl s
      have tf3 : TF v3 A T U w s a e o l5 l6 l7 l9 N (U 33 s) := TF_go tf' F3 (fun b k y => by
        have y1 := xk b k y
        have a1 := ao.1
        exact ⟨fun q => by rw [q] at y1; omega, fun q => by rw [q] at y1; omega, fun q => by omega, fun q => by omega, by omega, by omega, fun q => by omega⟩) (fun _ _ => rfl) (fun _ _ _ => rfl) (fun _ _ => rfl) h33.2 (fun _ y => y) (fun _ _ => rfl) (fun _ _ _ _ _ => rfl) (fun _ _ _ => rfl) hMl
      refine own_md (what := 7) (num := 0) (f := 29) (i := s) (Sh := Sh) blc c3 md3 (by rw [e551]; exact hr) ⟨by decide, fun z => absurd z (by decide)⟩ cx3 hsh n0 (by omega) (fun _ => P2) (fun p hx => AR_nu md3.2.1.2.1 md3.2.1.2.2.1 hsA3 w0.1 p (by decide) (by decide) hx md3.2.2.2.1 (Or.inr (Or.inr (Or.inr ⟨rfl, ao3⟩))))
        (fun p h4 v4 A4 T4 S4 U4 c4 md4 cx4 ae4 ts4 mf4 fu4 hsB go4 n51 x55 x56 e48' lt fb4 ⟨e41, e42⟩ ⟨w20, w33, w30, w25, w26, ab4⟩ => ?_) (by omega) (by omega) (by rw [e551]; exact e55) (by rw [e481]; exact e48) (fun h' v' p c' wx y => ?_)
      · obtain ⟨o1, o2, o3, o4, o5, o6⟩ := oU_v (w := w) (what := 7) (own := s) (num := 0) (f := 29) (i := s) (U := U) (S := tAdv S) p (by decide)
        have nb := pr.2.1
        -- what stayed of the try
        obtain ⟨⟨j1, j2, j3, j4, j5, j6, j7⟩, jt, jn, jtn, ⟨j8, j9⟩, ⟨ja, jb⟩, jao, ⟨jc, jd⟩, _⟩ := tf3
        have tgT := md3.1.2.2.2.2.1.1
        have k03 := md3.1.1.w0.1
        have k23 := md3.1.1.w0.2.1
        have nX : ∀ {b n : Nat}, hK v3.1 b = n → n ≠ 0 → n ≠ 2 → n ≠ 3 → n ≠ 4 → n ≠ 22 → ∀ k, ¬ Xb (R 0) (R 2) T b k := fun {b n} e e0 e2 e3 e4 e5 k y => by
          have t0 := tgT b (by omega) (by omega) (by omega)
          rcases y with y | y | y | y
          · rw [y.1, k03] at e; omega
          · rw [y.1, k23] at e; omega
          · omega
          · omega
        have nL : ∀ {b : Nat}, hK v3.1 b = 4 → T b = 4 → ¬ Xb (R 0) (R 2) T b 99 := fun {b} e t y => by
          rcases y with y | y | y | y
          · rw [y.1, k03] at e; omega
          · rw [y.1, k23] at e; omega
          · omega
          · omega
        have fa := fun j => mf4.ff (k := j) (hK_lt j1 (by decide)) (nX j1 (by decide) (by decide) (by decide) (by decide) (by decide) j)
        have ea4 : A4 2 s = a := by rw [(ae4.1 s hsA3).1]; exact ea
        have ka4 := mf4.kk j1 (by decide)
        have e27 : U4 27 s = U 27 s := by rw [fu4.fs hsB (by decide) (by decide) (by decide), oU_o (by decide) (by decide)]
        have e29 : U4 29 s = w * 1024 + U 40 w := by rw [fu4.fs hsB (by decide) (by decide) (by decide)]; exact o6
        have a4k : ∀ k, 0 ≤ k → k < U 33 s → A4 4 (4 * s + k) = A 4 (4 * s + k) := fun k i0 i1 => ae4.2.2.1 _ (by rw [show (4 * s + k) / 4 = s by omega]; exact hsA3) (by rw [show (4 * s + k) / 4 = s by omega, show (4 * s + k) % 4 = k by omega]; exact i1)
        have c5 := CR_pR (k := 10) (z := some (A4 3 (w * 1024 + U 40 w))) c4 ka4 rfl
        have md5 := MD_pR (k := 10) (z := some (A4 3 (w * 1024 + U 40 w))) md4 (by decide) (fun z => absurd z (by decide)) (by decide)
        rw [ea4] at md5
        have cx5 := cx4.pR (e := a) (k := 10) (z := some (A4 3 (w * 1024 + U 40 w))) na
        have f5 : Fw (fun b k => b = a ∧ k = 10) v4 (vpR v4 a 10 (some (A4 3 (w * 1024 + U 40 w)))) := Fw.refl.pR (Or.inr ⟨rfl, rfl⟩)
        have fb := fun j (hj : j ≠ 10) => f5.ff (a := a) (k := j) (hK_lt ka4 (by decide)) (fun y => hj y.2)
        have r10 : hR (vpR v4 a 10 (some (A4 3 (w * 1024 + U 40 w)))).1 a 10 = some (A4 3 (w * 1024 + U 40 w)) := by rw [vpR_1, hR_putR, if_pos ⟨rfl, rfl⟩]
        generalize (vpR v4 a 10 (some (A4 3 (w * 1024 + U 40 w)))) = v5 at *
        rw [Kt_v, sX1_tried_212 (c4.kk ka4 (by decide)), sX1_tried_215]
        have tn4 := TN_fw mf4 (fun b k y => ⟨fun q => ⟨fun z => ?_, fun z => ?_⟩, fun z => ?_, fun z => ?_, fun q z => ?_⟩) jtn
        · have tn5 := TN_fw f5 (fun b k y => ⟨fun q => by omega, by rw [y.1, ka4]; decide, by rw [y.1, ka4]; decide, fun q => by omega⟩) tn4
          have k74 := mf4.kk j8 (by decide)
          have k94 := mf4.kk ja (by decide)
          have cb5 : ∀ k, 0 ≤ k → k < U4 33 s → hR v5.1 (A4 4 (4 * s + k)) 3 = some (A4 3 (U4 34 (4 * s + k))) := fun k i0 i1 => by
            rw [w33] at i1
            obtain ⟨y1, y2, y3⟩ := jd k i0 i1
            have kc4 := mf4.kk y2 (by decide)
            rw [a4k k i0 i1, (f5.ff (k := 3) (hK_lt kc4 (by decide)) (fun y => by omega)).2.2, (mf4.ff (k := 3) (hK_lt y2 (by decide)) (fun y => by
              rcases y with y | y | y | y
              · rw [y.1, k03] at y2; omega
              · rw [y.1, k23] at y2; omega
              · omega
              · omega)).2.2, fu4.fn (f := 34) hsB (by decide) (by omega), oU_o (by decide) (by decide), ae4.2.1 _ y3]
            exact y1
          obtain ⟨T5, G5, X5⟩ := TF_end (N := N) md5 cx5 tzh ea4 ls ⟨f5.kk ka4 (by decide), by rw [(fb 5 (by decide)).2.2, (fa 5).2.2]; exact j2, by rw [(fb 6 (by decide)).2.2, (fa 6).2.2]; exact j3, by rw [(fb 7 (by decide)).2.2, (fa 7).2.2]; exact j4, by rw [(fb 8 (by decide)).2.2, (fa 8).2.2, e27, ae4.2.1 _ u2]; exact j5, by rw [(fb 9 (by decide)).2.2, (fa 9).2.2]; exact j6⟩
            (by rw [r10, e29]; unfold optA; rw [if_neg (by omega)]) ⟨by rw [ts4 _ (hK_lt jtn.1.1 (by decide))]; exact jt.1, by rw [ts4 _ (hK_lt jtn.1.2 (by decide))]; exact jt.2.1, by rw [ts4 _ (hK_lt j8 (by decide))]; exact jt.2.2.1, by rw [ts4 _ (hK_lt ja (by decide))]; exact jt.2.2.2⟩ nn tn5
            ⟨f5.kk k74 (by decide), by rw [(f5.cc (hK_lt k74 (by decide)) (fun y => by omega)).1, (mf4.cc (hK_lt j8 (by decide)) (nL j8 jt.2.2.1)).1]; exact j9⟩
            ⟨f5.kk k94 (by decide), by rw [(f5.cc (hK_lt k94 (by decide)) (fun y => by omega)).1, (mf4.cc (hK_lt ja (by decide)) (nL ja jt.2.2.2)).1, jb, w33]; exact rowL_congr (fun k i0 i1 => (a4k k i0 i1).symm)⟩
            cb5 (by rw [w20]; exact u1) (by rw [e27]; omega) (by rw [w30]; exact u4) (fun i i0 i1 => by rw [fu4.fn hsB (by decide) (by omega), fu4.fn hsB (by decide) (by omega), oU_o (by decide) (by decide), oU_o (by decide) (by decide)]; exact u5 i i0 i1)
          exact q1 _ v5 A4 T5 S4 U4 c5 G5 ⟨X5.1.le (by omega) (by omega), X5.2⟩ ea4 (by
              have : tShut w (w * 1024 + U 40 w) S4 U4 = (S4, U4) := by
                unfold tShut
                rw [e41, if_neg (by decide), if_neg (by decide), if_neg (by decide), if_neg (by decide), if_neg (by decide)]
              rw [this] at go4
              exact go4) md5.2.2.2.1 md5.2.2.2.2.2.1 md5.2.2.1.2 (by omega) (fun i hi => by rw [x56 i (by omega), tAdv_55.2.1]) (by omega) (by omega)
        · rw [q, z] at y
          exact nL jtn.1.1 jt.1 y
        · rw [q, z] at y
          exact nL jtn.1.2 jt.2.1 y
        · exact nX z (by decide) (by decide) (by decide) (by decide) (by decide) _ y
        · exact nX z (by decide) (by decide) (by decide) (by decide) (by decide) _ y
        · exact nX z (by decide) (by decide) (by decide) (by decide) (by decide) _ y
      · rw [Kt_x]
        exact q2 h' v' p c' wx y
    · rw [Kt_x]
      exact q2 h1 v1 _ c1 ((Wg_X (k := 1) g qv wg (by omega) (by omega) le).pre' cx.1 cx.2.2.1 (by omega) (by omega) e48) (doom_opn e521 (SI_adv si) (fun p => by have := (tIsO_iff.mp p).1; omega) (fun _ => rfl))
  · rw [if_pos (bI_0.mpr fi), sX1_tried_215]
    have be : tBehind w s false S U = (S, U) := by
      unfold tBehind
      rw [if_neg nc, if_neg fi, if_neg (fun y => absurd y.1 (by decide))]
    rw [be] at q1
    obtain ⟨T5, G5, X5⟩ := TF_end (N := N) md' cx tzh ea ls ⟨k1, k2, k3, k4, k5, k6⟩ (by rw [k7, u3]; rfl) tt nn tn t7 t9 (fun k i0 i1 => (cb k i0 i1).1) u1 (by omega) u4 u5
    exact q1 h v A T5 S U cr G5 X5 ea (tGo_refl _) ar e22 s52 rfl (fun _ _ => rfl) rfl (Int.le_refl _)
end TRI
