/-! COMPONENT, 50: break, from head to head *-/
section BR2
variable {r a bt : Nat} {h : am_H} {R : Nat → Nat} {A Ah : Nat → Int → Nat} {T Th : Nat → Nat} {w s p0 : Int} {v vh : vT} {S Uh U : tSt} {o : Option Nat} {Q : am_O → am_H → Prop} {l2 l4 l5 l6 l7 l8 l9 l10 l11 l12 : Option am_V}
theorem st_break (hd : HD R Ah Th w p0 vh S Uh o) (cr : CR h v) (md : MD R A T w s p0 v S U o) (cx : CX R w (S 56 (S 55 0 - 1)) Ah Th vh Uh A T v U 20 340) (hs : s = w * 120 + Uh 19 w) (e19 : U 19 w = Uh 19 w + 1) (u20 : U 20 s = 0) (u33 : U 33 s = 0) (ea : A 2 s = a)
    (na : hN vh.1 ≤ a) (nb : hN vh.1 ≤ bt) (ka : hK v.1 a = 35) (bk : BK v a bt none []) (tb : T bt = 4) (st : tStep w S Uh = (tTake (tAdv S) 59, up U 20 s 7))
    (q1 : ∀ h' v' A' T' S' U', CR h' v' → SX R w 20 300 Ah Th vh S Uh A' T' v' S' U' → HD R A' T' w p0 v' S' U' o → tGo w (S, Uh) (S', U') → S 49 0 < S' 49 0 → S' 55 0 = S 55 0 → (∀ i, i < S 55 0 → S' 56 i = S 56 i) → NWs w Uh U' (S 56 (S 55 0 - 1)) → Q (Sum.inl (some (vR (some (A' 2 (w * 120 + Uh 19 w)))))) h')
    (q2 : ∀ h' v' p, CR h' v' → WX R Th vh v' S (20 - 2 * S 55 0) p → doom w (S, Uh) p → Q (Sum.inr (R 2)) h') :
    Rn r 175 133 [some (vR (some (R 0))), some (vR o), l2, some (vR (some a)), l4, l5, l6, l7, l8, l9, l10, l11, l12] [] h Q := by
  have hd' := hd
  obtain ⟨gh, ⟨hPh, prh, qvh, w0⟩, ⟨d1, s52⟩, arh, chh⟩ := hd
  have n19 := hPh.2.2.2.2.2.1
  have si0 := hPh.1
  have d8 := si0.2.2.2.2.2.2.2
  have a47 := tAdv_47 si0
  have e521 : tAdv S 52 0 = -1 := by rw [tAdv_52]; exact s52
  have e481 : tAdv S 48 0 = S 48 0 := by rw [tAdv_55.2.2.1]
  have si1 := SI_adv si0
  have b47 := tAdv_47 si1
  have dm : ∀ p, doom w (tTake (tAdv S) 59, up U 20 s 7) p → doom w (S, Uh) p := fun p y => doom_step s52 (Or.inl (by omega)) (by rw [st]; exact y)
  refine st_next d1 cr md cx ka (by decide) (by decide) (fun z h1 v1 c1 md1 cx1 f1 fa1 ka1 => ?_) (fun z h1 v1 c1 wx => q2 h1 v1 _ c1 wx (dm _ (doom_take e521 si1 (by omega))))
  have k01 := md1.1.1.w0.1
  have kr1 := c1.kk k01 (by decide)
  have k91 := md1.1.k9
  have le1 := md1.1.1.le
  have bk1 : BK v1 a bt none [] := by
    obtain ⟨b1, b2, b3, b4, b5⟩ := bk
    refine ⟨ka1, by rw [(fa1 5).2.2]; exact b2, by rw [(fa1 6).2.2]; exact b3, f1.kk b4 (by decide), ?_⟩
    rw [(f1.cc (hK_lt b4 (by decide)) (fun y => by rcases y with y | y <;> omega)).1]
    exact b5
  rw [dsp_35 (c1.kk ka1 (by decide)), sX1_statement_338, sX1_statement_339, sX1_statement_341 kr1, i_59]
  refine t_want c1 md1.1.1 (by omega) (fun x51 z2 h2 v2 c2 f2 t2 n2 s02 s2 _ => ?_) (fun x51 z2 h2 v2 c2 wg => ?_) (fun x51 h2 v2 c2 wg => ?_)
  · have md2 := MD_q md1 f2 t2
    have cx2 : CX R w (S 56 (S 55 0 - 1)) Ah Th vh Uh A T v2 U _ _ := ⟨cx1.1.q f2 k91 n2 s02 s2, cx1.2⟩
    have tk1 := md1.1.1.2.2.1.2.2.1 (by omega)
    have k02 := md2.1.1.w0.1
    have na0 : a ≠ R 0 := fun e => by rw [← e, ka1] at k01; exact absurd k01 (by decide)
    have na2 : a ≠ R 2 := fun e => by have := md1.1.1.w0.2.1; rw [← e, ka1] at this; exact absurd this (by decide)
    have fa2 := fun j => f2.ff (k := j) (hK_lt ka1 (by decide)) (fun y => by rcases y with y | y; exact na0 y.1; exact na2 y.1)
    have ka2 := f2.kk ka1 (by decide)
    have bk2 : BK v2 a bt none [] := by
      obtain ⟨b1, b2, b3, b4, b5⟩ := bk1
      refine ⟨ka2, by rw [(fa2 5).2.2]; exact b2, by rw [(fa2 6).2.2]; exact b3, f2.kk b4 (by decide), ?_⟩
      rw [(f2.cc (hK_lt b4 (by decide)) (fun y => by rcases y with y | y <;> omega)).1]
      exact b5
    have tk : tTake (tAdv S) 59 = tAdv (tAdv S) := if_pos x51
    obtain ⟨g, ⟨hP, pr, qv, _⟩, _, ar, hsA, e22, ch⟩ := md2
    have n191 := hP.2.2.2.2.2.1
    have i0 : (0 : Int) ≤ tAdv (tAdv S) 55 0 - 1 := by rw [tAdv_55.1, tAdv_55.1]; omega
    have top : U 22 s = tAdv (tAdv S) 56 (((tAdv (tAdv S) 55 0 - 1).toNat : Nat) : Int) := by rw [e22]; congr 1; omega
    have tl := tTr_len ch (U 22 s + 2).toNat (tAdv (tAdv S) 55 0 - 1).toNat (by omega)
    have tp := tTg_lp (w := w) ch hP pr (U 22 s + 2).toNat (tAdv (tAdv S) 55 0 - 1).toNat (by omega)
    rw [← top] at tl tp
    have d82 := hP.1.2.2.2.2.2.2.2
    have tl8 : (tTr U (U 22 s + 2).toNat (U 22 s)).length ≤ 7 := by omega
    change tgt U s = -1 ∨ ((U 20 (tgt U s) = 5 ∨ U 20 (tgt U s) = 6) ∧ As w U (tgt U s)) at tp
    have lbt : tgt U s ≠ -1 → LB v2 A T U w (tgt U s) := fun q => by
      obtain ⟨q1, q2⟩ := tp.resolve_left q
      exact g.2.2.2.2.2.2.2.2.2.2.2.1 _ q2 q1
    rw [Kt_0, sX1_statement_344, sX1_statement_345, sX1_statement_347, sX1_statement_348 (c2.kk k02 (by decide))]
    refine c_leave (tg := tgt U s) c2 ar bk2 (by omega) (fun k hk => ?_) rfl (fun q => ?_) (fun h3 v3 c3 f3 bk3 ls3 n3 s03 s3 => ?_)
    · have := g.ek (tTr_As pr.1 _ _ (pr.1.1 s hsA).1 k hk)
      omega
    · obtain ⟨l1, l2, l3, l4, l5⟩ := lbt q
      refine ⟨l1, l2, l3, ?_, fun e => by rw [e, tb] at l4; exact absurd l4 (by decide)⟩
      rw [l5, List.length_map]
      exact stL_len n191
    · rw [← ea] at f3 bk3 ls3
      have G3 := GI_brk (tg := tgt U s) (bt := bt) g pr qv w0 (by omega) (by omega) u20 u33 (by rw [ea]; exact ka2) tb bk2.2.2.2.1 rfl tp f3 bk3 ls3
      have hfx : FX w s U (up U 20 s 7) := FX_up (FU.refl.fx (Int.le_refl _)) (by decide) (by decide) (by decide) (Or.inl ⟨rfl, Or.inl rfl⟩)
      have e19' : up U 20 s 7 19 w = U 19 w := by rw [up_n (by decide)]
      obtain ⟨x1, x2, x3, x4, x5⟩ := cx2.fx hfx e19' (by omega) (by omega) w0.1 n19.1
      have t93 : T (R 9) = 3 := g.2.2.2.2.2.1.2.2.2.2.2.2.1.2.1
      have k92 := g.k9
      have cp3 : vCp v3 (R 9) = vCp v2 (R 9) := (f3.cc (hK_lt k92 (by decide)) (fun y => by
        rcases y with (y | y) | y
        · omega
        · rw [y.1, tb] at t93
          exact absurd t93 (by decide)
        · have := (lbt y.1).2.2.2.1
          rw [← y.2.1, t93] at this
          exact absurd this (by decide))).2.2.1
      have m3 : MX R Th vh v3 (20 + 20 * (tAdv S 47 0 - S 47 0) + 20 * (tAdv (tAdv S) 47 0 - tAdv S 47 0) + 8) (340 + 200 * (tAdv S 47 0 - S 47 0) + 200 * (tAdv (tAdv S) 47 0 - tAdv S 47 0) + 460) := by
        refine x1.fw f3 (fun c k y => ?_) ⟨f3.1, by omega, s03, by rw [cp3]; omega, by rw [cp3]; exact Nat.le_refl _⟩
        rcases y with (y | y) | y
        · exact Or.inl (by rw [y.1, ea]; exact na)
        · exact Or.inl (by rw [y.1]; exact nb)
        · by_cases q : c < hN vh.1
          · refine Or.inr (Or.inr (Or.inr (Or.inl ⟨y.2.2, Or.inl ?_⟩)))
            rw [← x3 c q, y.2.1]
            exact (lbt y.1).2.2.2.1
          · exact Or.inl (by omega)
      have tzh := gh.2.2.2.2.1.2
      have cx3 : CX R w (S 56 (S 55 0 - 1)) Ah Th vh Uh A (Tst T bt 1) v3 (up U 20 s 7) _ _ := ⟨m3, ⟨x2.1, x2.2.1, x2.2.2.1, x2.2.2.2.1, x2.2.2.2.2.1, fun c h0 h4 => by
        rw [Tst_o (fun e => h0 (by rw [e]; exact tzh bt nb))]
        exact x2.2.2.2.2.2 c h0 h4⟩, fun c hc => by rw [Tst_o (by omega)]; exact x3 c hc, x4, x5⟩
      have ar3 := AR_fx hfx pr.1 qv _ _ _ (pr.1.1 s hsA).1 (AR_fw f3 (fun c k y => by
        rcases y with (y | y) | y
        · rw [y.1, ea, ka2]
          exact ⟨by decide, fun q => absurd q (by decide), fun _ => by decide⟩
        · rw [y.1, bk2.2.2.2.1]
          exact ⟨by decide, fun q => absurd q (by decide), fun _ => by decide⟩
        · rw [y.2.1, (lbt y.1).2.2.1]
          exact ⟨by decide, fun q => absurd q (by decide), fun _ => by decide⟩) _ _ _ ar)
      rw [e22, tAdv_55.1, tAdv_55.1, tAdv_55.2.1, tAdv_55.2.1] at ar3
      rw [Kt_0, sX1_statement_351, sX1_statement_432, sX1_statement_433]
      have fin := st_fin hd' cx3 c3 G3 (by rw [st, tk]; exact tGo_refl _) (by rw [tAdv_52]; exact e521) (by rw [tAdv_55.1, tAdv_55.1]) (fun i _ => by rw [tAdv_55.2.1, tAdv_55.2.1]) (by rw [tAdv_55.2.2.1]; exact e481) ar3 (by omega) (by omega) (by omega) q1
      rw [← hs, ea] at fin
      exact fin
  · have x := Wg_X (k := 1) md1.1 md1.2.1.2.2.1 wg (by omega) (by omega) le1
    rw [Kt_x]
    refine q2 h2 v2 _ c2 (x.pre' cx1.1 cx1.2.2.1 (by omega) (by omega) e481) (dm _ ?_)
    have tk : tTake (tAdv S) 59 = tAdv (tAdv S) := if_pos x51
    rw [tk]
    exact doom_bad (by rw [tAdv_52]; exact e521) (SI_adv si1) (TK_adv si1.1) z2
  · have x := Wg_X (k := 1) md1.1 md1.2.1.2.2.1 wg (by omega) (by omega) le1
    rw [Kt_x]
    exact q2 h2 v2 _ c2 (x.pre' cx1.1 cx1.2.2.1 (by omega) (by omega) e481) (dm _ (doom_take e521 si1 x51))
end BR2
