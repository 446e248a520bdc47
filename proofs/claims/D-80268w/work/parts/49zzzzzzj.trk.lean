/-! COMPONENT, 77: the body of a try *-/
section TRK
variable {r a l5 l6 l7 l9 : Nat} {h : am_H} {R : Nat → Nat} {A Ah : Nat → Int → Nat} {T Th : Nat → Nat} {w s b0 p0 c d : Int} {v vh : vT} {S Sh U Uh : tSt} {o : Option Nat} {N : List (Int × Int)} {Q : am_O → am_H → Prop} {l3 : Option am_V}
theorem AO_hd {v1 : vT} : AO (vpR (vpR (vnw v1 20 5) (hN v1.1) 0 o) (hN v1.1) 4 (some a)) (hN v1.1) o none none false (some a) := by
  refine ⟨nw_k, ?_, ?_, ?_, ?_, ?_⟩
  · rw [vpR_1, hR_putR, if_neg (fun y => absurd y.2 (by decide)), vpR_1, hR_putR, if_pos ⟨rfl, rfl⟩]
  · rw [vpR_1, hR_putR, if_neg (fun y => absurd y.2 (by decide)), vpR_1, hR_putR, if_neg (fun y => absurd y.2 (by decide)), vnw_1, hR_newC, if_pos rfl]
  · rw [vpR_1, hR_putR, if_neg (fun y => absurd y.2 (by decide)), vpR_1, hR_putR, if_neg (fun y => absurd y.2 (by decide)), vnw_1, hR_newC, if_pos rfl]
  · rw [vpR_1, hI_putR, vpR_1, hI_putR, vnw_1, hI_newC, if_pos rfl]
    rfl
  · rw [vpR_1, hR_putR, if_pos ⟨rfl, rfl⟩]
/-- the body of a try and what is behind it -/
theorem tr_body (blc : BLC r R w p0) (hPh : PI w Sh Uh) (prh : PR w Uh) (qvh : QV Uh) (tzh : TZ vh Th) (cr : CR h v) (md : MD R A T w s p0 v S U o) (cx : CX R w b0 Ah Th vh Uh A T v U c d) (hsh : 120 * w + Uh 19 w ≤ s) (n0 : 0 ≤ Uh 19 w) (na : hN vh.1 ≤ a) (hMl : N.length ≤ 4) (ls : hN vh.1 ≤ l5 ∧ hN vh.1 ≤ l6 ∧ hN vh.1 ≤ l7 ∧ hN vh.1 ≤ l9) (ea : A 2 s = a)
    (fk : hK v.1 a = 36 ∧ hR v.1 a 5 = some l5 ∧ hR v.1 a 6 = some l6 ∧ hR v.1 a 7 = some l7 ∧ hR v.1 a 9 = some l9 ∧ hR v.1 a 10 = none) (tt : T l5 = 4 ∧ T l6 = 4 ∧ T l7 = 4 ∧ T l9 = 4) (nn : l9 ≠ l5 ∧ l9 ≠ l6 ∧ l9 ≠ l7 ∧ l7 ≠ l5 ∧ l7 ≠ l6) (tn : TN v l5 l6 N) (t7 : hK v.1 l7 = 4 ∧ vLs v l7 = []) (t9 : hK v.1 l9 = 4 ∧ vLs v l9 = [])
    (u20 : U 20 s = 9) (u33 : U 33 s = 0) (u29 : U 29 s = -1) (u30 : U 30 s = N.length) (un : ∀ i : Int, 0 ≤ i → i < N.length → U 31 (4 * s + i) = (N.getD i.toNat (0, 0)).1 ∧ U 32 (4 * s + i) = (N.getD i.toNat (0, 0)).2)
    (g00 : tGo w (Sh, Uh) (tOpn w 5 s 0 27 s S U)) (hr : 9 - Sh 55 0 ≤ r) (e55 : S 55 0 = Sh 55 0) (e56 : ∀ i, i < Sh 55 0 → S 56 i = Sh 56 i) (e48 : S 48 0 = Sh 48 0) (e47 : Sh 47 0 ≤ S 47 0) (hc : c ≤ 300 * (S 47 0 - Sh 47 0) + 40) (hd : d ≤ 2000 * (S 47 0 - Sh 47 0) + 700)
    (q1 : ∀ h' v' A' T' S' U', CR h' v' → GI R A' T' w (-1) p0 v' S' U' → CX R w b0 Ah Th vh Uh A' T' v' U' (300 * (S' 47 0 - Sh 47 0) - 20) (2000 * (S' 47 0 - Sh 47 0) - 300) → A' 2 s = a → tGo w (tOpn w 5 s 0 27 s S U) (S', U') → AR v' A' U' (U' 22 s + 2).toNat (U' 22 s) o → U' 22 s = S' 56 (S' 55 0 - 1) → S' 52 0 = -1 → S' 55 0 = Sh 55 0 → (∀ i, i < Sh 55 0 → S' 56 i = Sh 56 i) → S' 48 0 = Sh 48 0 → Sh 47 0 ≤ S' 47 0 → Q (Sum.inl none) h')
    (q2 : ∀ h' v' p, CR h' v' → WX R Th vh v' Sh (20 - 2 * Sh 55 0) p → doom w (tOpn w 5 s 0 27 s S U) p → Q (Sum.inr (R 2)) h') : Rn (r + 1) 225 84 [some (vR (some (R 0))), some (vR (some a)), some (vR o), l3] [] h Q := by
  have md' := md
  obtain ⟨g, ⟨hP, pr, qv, w0⟩, ⟨d1, s52⟩, ar, hsA, e22, ch⟩ := md
  obtain ⟨k1, k2, k3, k4, k6, k7⟩ := fk
  have k0 := g.1.w0.1
  have si := g.1.2.1
  have nnh := cr.hn
  have la := hK_lt k1 (by decide)
  rw [sX1_tried_84, sX1_tried_87, sX1_tried_88, sX1_tried_89 (by rw [nw_h]; decide) (by rw [nw_h]; decide), c_iAround nw_h, Kt_0, sX1_tried_92, sX1_tried_93, sX1_tried_94, sX1_tried_95 (by rw [hK_putR]; exact nw_h), sX1_tried_98, sX1_tried_99, sX1_tried_100, sX1_tried_101 (by rw [hK_putR, hK_putR, hK_newC, if_neg (by rw [nnh]; have := hK_lt k0 (by decide); omega)]; exact cr.kk k0 (by decide)), nnh]
  have c3 := CR_pR (k := 4) (z := some a) (CR_pR (k := 0) (z := o) (CR_nw (m := 20) (n := 5) cr rfl) nw_k rfl) (by exact nw_k) rfl
  have f3 : Fw (fun _ _ => False) v (vpR (vpR (vnw v 20 5) (hN v.1) 0 o) (hN v.1) 4 (some a)) := (Fw.refl.nw.pR (Or.inl (Nat.le_refl _))).pR (Or.inl (Nat.le_refl _))
  have ao3 := AO_hd (v1 := v) (o := o) (a := a)
  have n3 : hN (vpR (vpR (vnw v 20 5) (hN v.1) 0 o) (hN v.1) 4 (some a)).1 = hN v.1 + 1 := rfl
  have s3 : hS (vpR (vpR (vnw v 20 5) (hN v.1) 0 o) (hN v.1) 4 (some a)).1 = hS v.1 + 5 := rfl
  generalize (vpR (vpR (vnw v 20 5) (hN v.1) 0 o) (hN v.1) 4 (some a)) = v3 at *
  generalize (putR (putR (newC h 20 5) (hN v.1) 0 o) (hN v.1) 4 (some a)) = h3 at *
  have md3 := MD_0 md' f3
  have cx3 := CX_0 (n := 1) (m := 5) cx f3 md'.1.k9 (by omega) (by omega) (by omega)
  have P2 := And.intro (tGo_PI g00 hPh) (And.intro (tGo_PR g00 w0 hPh qvh prh) (tGo_QV g00 w0 hPh qvh))
  have hsA3 := md3.2.2.2.2.1
  have F := fun j => f3.ff (k := j) la (fun y => y)
  have j1 := f3.kk k1 (by decide)
  have jtn := TN_fw f3 (fun _ _ y => y.elim) tn
  have j7 := f3.kk t7.1 (by decide)
  have j9 := f3.kk t9.1 (by decide)
  have l73 : vLs v3 l7 = [] := by rw [(f3.cc (hK_lt t7.1 (by decide)) (fun y => y)).1]; exact t7.2
  have l93 : vLs v3 l9 = [] := by rw [(f3.cc (hK_lt t9.1 (by decide)) (fun y => y)).1]; exact t9.2
  refine own_md (what := 5) (num := 0) (f := 27) (i := s) (Sh := Sh) blc c3 md3 (by omega) ⟨by decide, fun z => absurd z (by decide)⟩ cx3 hsh n0 (by omega) (fun _ => P2) (fun p hx => AR_nu md3.2.1.2.1 md3.2.1.2.2.1 hsA3 w0.1 p (by decide) (by decide) hx md3.2.2.2.1 (Or.inr (Or.inr (Or.inl ⟨rfl, by rw [ea]; exact ao3⟩))))
    (fun p h4 v4 A4 T4 S4 U4 c4 md4 cx4 ae4 ts4 mf4 fu4 hsB go4 n51 x55 x56 e48' lt fb4 ⟨e41, e42⟩ ⟨w20, w33, w30, w25, w26, ab4⟩ => ?_) (by omega) (by omega) e55 e48 (fun h' v' p c' wx y => ?_)
  · obtain ⟨o1, o2, o3, o4, o5, o6⟩ := oU_v (w := w) (what := 5) (own := s) (num := 0) (f := 27) (i := s) (U := U) (S := S) p (by decide)
    have nb := pr.2.1
    have tgT := md3.1.2.2.2.2.1.1
    have k03 := md3.1.1.w0.1
    have k23 := md3.1.1.w0.2.1
    have nX : ∀ {b n : Nat}, hK v3.1 b = n → n ≠ 0 → n ≠ 2 → n ≠ 3 → n ≠ 4 → n ≠ 22 → ∀ k, ¬ Xb (R 0) (R 2) T b k := fun {b n} e e0 e2 e3 e4 e5 k y => by
      have t0 := tgT b (by omega) (by omega) (by omega)
      rcases y with y | y | y | y
      · rw [y.1, k03] at e; omega
      · rw [y.1, k23] at e; omega
      · omega
      · omega
    have nL : ∀ {b : Nat}, hK v3.1 b = 4 → T b = 4 → ¬ Xb (R 0) (R 2) T b 99 := fun {b} e t y => by
      rcases y with y | y | y | y
      · rw [y.1, k03] at e; omega
      · rw [y.1, k23] at e; omega
      · omega
      · omega
    have fa := fun j => mf4.ff (k := j) (hK_lt j1 (by decide)) (nX j1 (by decide) (by decide) (by decide) (by decide) (by decide) j)
    have ea4 : A4 2 s = a := by rw [(ae4.1 s hsA3).1]; exact ea
    have ka4 := mf4.kk j1 (by decide)
    have e27 : U4 27 s = w * 1024 + U 40 w := by rw [fu4.fs hsB (by decide) (by decide) (by decide)]; exact o6
    have e29 : U4 29 s = -1 := by rw [fu4.fs hsB (by decide) (by decide) (by decide), oU_o (by decide) (by decide)]; exact u29
    have c5 := CR_pR (k := 8) (z := some (A4 3 (w * 1024 + U 40 w))) c4 ka4 rfl
    have md5 := MD_pR (k := 8) (z := some (A4 3 (w * 1024 + U 40 w))) md4 (by decide) (fun z => absurd z (by decide)) (by decide)
    rw [ea4] at md5
    have cx5 := cx4.pR (e := a) (k := 8) (z := some (A4 3 (w * 1024 + U 40 w))) na
    have f5 : Fw (fun b k => b = a ∧ k = 8) v4 (vpR v4 a 8 (some (A4 3 (w * 1024 + U 40 w)))) := Fw.refl.pR (Or.inr ⟨rfl, rfl⟩)
    have fb := fun j (hj : j ≠ 8) => f5.ff (a := a) (k := j) (hK_lt ka4 (by decide)) (fun y => hj y.2)
    have r8 : hR (vpR v4 a 8 (some (A4 3 (w * 1024 + U 40 w)))).1 a 8 = some (A4 3 (w * 1024 + U 40 w)) := by rw [vpR_1, hR_putR, if_pos ⟨rfl, rfl⟩]
    rw [Kt_v, sX1_tried_104 (c4.kk ka4 (by decide))]
    generalize (vpR v4 a 8 (some (A4 3 (w * 1024 + U 40 w)))) = v5 at *
    generalize (putR h4 a 8 (some (A4 3 (w * 1024 + U 40 w)))) = h5 at *
    have tn4 := TN_fw mf4 (fun b k y => ⟨fun q => ⟨fun z => nL jtn.1.1 tt.1 (by rw [← z, ← q]; exact y), fun z => nL jtn.1.2 tt.2.1 (by rw [← z, ← q]; exact y)⟩, fun z => nX z (by decide) (by decide) (by decide) (by decide) (by decide) _ y, fun z => nX z (by decide) (by decide) (by decide) (by decide) (by decide) _ y, fun q z => nX z (by decide) (by decide) (by decide) (by decide) (by decide) _ y⟩) jtn
    have tn5 := TN_fw f5 (fun b k y => ⟨fun q => by omega, by rw [y.1, ka4]; decide, by rw [y.1, ka4]; decide, fun q => by omega⟩) tn4
    have k74 := mf4.kk j7 (by decide)
    have k94 := mf4.kk j9 (by decide)
    have ao4 := AO_fw mf4 (fun k y => nX ao3.1 (by decide) (by decide) (by decide) (by decide) (by decide) k y) ao3
    have ao5 := AO_fw f5 (fun k y => by have := ao4.1; rw [y.1, ka4] at this; exact absurd this (by decide)) ao4
    have ka5 := f5.kk ka4 (by decide)
    have w33' : U4 33 s = 0 := by rw [w33]; exact u33
    have tf5 : TF v5 A4 T4 U4 w s a (hN v.1) o l5 l6 l7 l9 N (U4 33 s) := by
      refine ⟨⟨ka5, by rw [(fb 5 (by decide)).2.2, (fa 5).2.2, (F 5).2.2]; exact k2, by rw [(fb 6 (by decide)).2.2, (fa 6).2.2, (F 6).2.2]; exact k3, by rw [(fb 7 (by decide)).2.2, (fa 7).2.2, (F 7).2.2]; exact k4, by rw [e27]; exact r8, by rw [(fb 9 (by decide)).2.2, (fa 9).2.2, (F 9).2.2]; exact k6, by rw [(fb 10 (by decide)).2.2, (fa 10).2.2, (F 10).2.2]; exact k7⟩, ⟨by rw [ts4 _ (hK_lt jtn.1.1 (by decide))]; exact tt.1, by rw [ts4 _ (hK_lt jtn.1.2 (by decide))]; exact tt.2.1, by rw [ts4 _ (hK_lt j7 (by decide))]; exact tt.2.2.1, by rw [ts4 _ (hK_lt j9 (by decide))]; exact tt.2.2.2⟩, nn, tn5, ⟨f5.kk k74 (by decide), ?_⟩, ⟨f5.kk k94 (by decide), ?_⟩, ao5, ⟨Int.le_refl _, fun k i0 i1 => by omega⟩, ⟨by rw [w20]; exact u20, by rw [e27]; exact ab4, e29⟩, ⟨by rw [w30]; exact u30, fun i i0 i1 => by rw [fu4.fn hsB (by decide) (by omega), fu4.fn hsB (by decide) (by omega), oU_o (by decide) (by decide), oU_o (by decide) (by decide)]; exact un i i0 i1⟩⟩
      · rw [(f5.cc (hK_lt k74 (by decide)) (fun y => by omega)).1, (mf4.cc (hK_lt j7 (by decide)) (nL j7 tt.2.2.1)).1]
        exact l73
      · rw [(f5.cc (hK_lt k94 (by decide)) (fun y => by omega)).1, (mf4.cc (hK_lt j9 (by decide)) (nL j9 tt.2.2.2)).1, l93, w33']
        rfl
    have k05 := md5.1.1.w0.1
    have kr5 := c5.kk k05 (by decide)
    have si4 := md5.1.1.2.1
    have s524 := md5.2.2.1.2
    have d8 := si4.2.2.2.2.2.2.2
    have le4 := md5.1.1.le
    have sh : tShut w (w * 1024 + U 40 w) S4 U4 = tBehind w s true S4 U4 := by
      unfold tShut
      rw [e41, e42, if_neg (by decide), if_neg (by decide), if_neg (by decide), if_pos rfl]
    rw [sh] at go4
    have w30' : U4 30 s = N.length := by rw [w30]; exact u30
    have key : Rn (r + 1) 225 143 [some (vR (some (R 0))), some (vR (some a)), some (vR o), some (vR (some (hN v.1)))] [vI (bI (N.length ≠ 0 ∨ S4 50 0 = wCatch ∨ S4 50 0 = wFinally)), vR (some (R 0))] h5 Q := by
      rw [sX1_tried_143 kr5]
      refine t_need c5 md5.1.1 (fun p5 => ?_) (fun p5 h6 v6 c6 wg6 => ?_)
      · have be : tBehind w s true S4 U4 = tBehind w s false S4 U4 := by
          unfold tBehind
          by_cases z1 : S4 50 0 = wCatch
          · rw [if_pos z1, if_pos z1]
          · by_cases z2 : S4 50 0 = wFinally
            · rw [if_neg z1, if_neg z1, if_pos z2, if_pos z2]
            · rw [if_neg z1, if_neg z1, if_neg z2, if_neg z2, if_neg (fun y => by omega), if_neg (fun y => absurd y.1 (by decide))]
        rw [be] at go4
        rw [Kt_0]
        exact tr_cat blc hPh prh qvh tzh hsh n0 na hMl ls g00 hr q1 q2 4 h5 v5 A4 T4 S4 U4 (by omega) c5 md5 ⟨cx5.1.le (by omega) (by omega), cx5.2⟩ tf5 ea4 go4 (by omega) (fun i hi => by rw [x56 i (by omega)]; exact e56 i hi) (by omega) (by omega)
      · rw [Kt_x]
        refine q2 h6 v6 _ c6 ((Wg_X (k := 1) md5.1 md5.2.1.2.2.1 wg6 (by omega) (by omega) le4).pre' cx5.1 cx5.2.2.1 (by omega) (by omega) (by omega)) (doom_go go4 ?_)
        have be : tBehind w s true S4 U4 = (tFail S4, U4) := by
          unfold tBehind
          rw [if_neg (fun y => p5 (Or.inr (Or.inl y))), if_neg (fun y => p5 (Or.inr (Or.inr y))), if_pos ⟨rfl, by have : ¬ N.length ≠ 0 := fun y => p5 (Or.inl y); omega⟩]
        rw [be]
        exact doom_fail s524 si4
    rw [sX1_tried_107, sX1_tried_108, sX1_tried_109 (c5.kk ka5 (by decide)), c5.rr ka5 rfl, tf5.1.2.1, sX1_tried_112 (c5.kk tn5.1.1 (by decide)), v_isEmpty c5 tn5.1.1, Kt_v, sX1_tried_115, tn5.2.1.1]
    unfold bI at key
    by_cases z0 : N.length = 0
    · rw [if_pos z0, if_neg (by decide), sX1_tried_118, sX1_tried_119, sX1_tried_122 kr5, c5.he, t_isWord c5 md5.1.1 (by decide) (by unfold lts cT; decide) (by unfold cT; decide), Kt_v, sX1_tried_125, i_0, wc25]
      by_cases z1 : S4 50 0 = wCatch
      · rw [if_pos (fun y => (bI_0.mp y) z1), sX1_tried_138, sX1_tried_139]
        rw [if_pos (Or.inr (Or.inl z1))] at key
        exact key
      · rw [if_neg (fun y => y (bI_0.mpr z1)), sX1_tried_128, sX1_tried_129, sX1_tried_132 kr5, c5.he, t_isWord c5 md5.1.1 (by decide) (by unfold lts cT; decide) (by unfold cT; decide), Kt_v, sX1_tried_135, i_0, wc26]
        by_cases z2 : S4 50 0 = wFinally
        · rw [if_neg (fun y => (bI_0.mp y) z2), sX1_tried_138, sX1_tried_139]
          rw [if_pos (Or.inr (Or.inr z2))] at key
          exact key
        · rw [if_pos (bI_0.mpr z2), sX1_tried_142]
          rw [if_neg (fun y => by rcases y with y | y | y; exact y z0; exact z1 y; exact z2 y)] at key
          exact key
    · rw [if_neg z0, if_pos (by decide), sX1_tried_138, sX1_tried_139]
      rw [if_pos (Or.inl z0)] at key
      exact key
  · rw [Kt_x]
    exact q2 h' v' p c' wx y
end TRK
