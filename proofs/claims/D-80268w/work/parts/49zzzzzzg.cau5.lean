/-! COMPONENT, 74: caught(283) *-/
section CA5
variable {r a e l5 l6 l7 l9 : Nat} {h : am_H} {R : Nat → Nat} {A Ah : Nat → Int → Nat} {T Th : Nat → Nat} {w s b0 p0 : Int} {v vh : vT} {S Sh U Uh : tSt} {o : Option Nat} {M : List (Int × Int)} {Q : am_O → am_H → Prop}
/-- the body of the last catch is known -/
theorem TF_c3 {ca : Nat} {n : Int} (tf : TF v A T U w s a e o l5 l6 l7 l9 M n) (u33 : U 33 s = n + 1) (eca : A 4 (4 * s + n) = ca) (kc : hK v.1 ca = 22) (ne : ∀ k, 0 ≤ k → k < n → A 4 (4 * s + k) ≠ ca) (u34 : Ab w U (U 34 (4 * s + n))) : TF (vpR v ca 3 (some (A 3 (U 34 (4 * s + n))))) A T U w s a e o l5 l6 l7 l9 M (n + 1) := by
  obtain ⟨⟨k1, k2, k3, k4, k5, k6, k7⟩, tt, nn, tn, ⟨s1, s2⟩, ⟨s3, s4⟩, ao, ⟨cn, cb⟩, uu, uv⟩ := tf
  have f : Fw (fun b k => b = ca ∧ k = 3) v (vpR v ca 3 (some (A 3 (U 34 (4 * s + n))))) := Fw.refl.pR (Or.inr ⟨rfl, rfl⟩)
  have na : a ≠ ca := fun q => by rw [q, kc] at k1; exact absurd k1 (by decide)
  have nae : e ≠ ca := fun q => by have := ao.1; rw [q, kc] at this; exact absurd this (by decide)
  have fa := fun j => f.ff (k := j) (hK_lt k1 (by decide)) (fun y => na y.1)
  refine ⟨⟨k1, by rw [(fa 5).2.2]; exact k2, by rw [(fa 6).2.2]; exact k3, by rw [(fa 7).2.2]; exact k4, by rw [(fa 8).2.2]; exact k5, by rw [(fa 9).2.2]; exact k6, by rw [(fa 10).2.2]; exact k7⟩, tt, nn, TN_fw f (fun b k y => ⟨fun q => by omega, by rw [y.1, kc]; decide, by rw [y.1, kc]; decide, fun q => by omega⟩) tn, ⟨s1, s2⟩, ⟨s3, s4⟩, AO_fw f (fun k y => nae y.1) ao, ⟨by omega, fun k i0 i1 => ?_⟩, uu, uv⟩
  by_cases q : k = n
  · rw [q, eca, vpR_1, hR_putR, if_pos ⟨rfl, rfl⟩]
    exact ⟨rfl, kc, u34⟩
  · obtain ⟨y1, y2, y3⟩ := cb k i0 (by omega)
    refine ⟨?_, y2, y3⟩
    rw [(f.ff (k := 3) (hK_lt y2 (by decide)) (fun y => ne k i0 (by omega) y.1)).2.2]
    exact y1
theorem tCatch_e (u33 : U 33 s ≠ 4) (h40 : tAdv S 51 0 = 40) : ∃ V1 V2 : tSt, tCatch w s S U = if (tLs 124 0 5 (tAdv S)).1 = true then (if tIsN (tLs 124 0 5 (tAdv S)).2.1 = true then (if tName (tLs 124 0 5 (tAdv S)).2.1 51 0 = 41 then tOpn w 6 s (U 33 s) 34 (4 * s + U 33 s) (tAdv (tName (tLs 124 0 5 (tAdv S)).2.1)) (tRg s (tLs 124 0 5 (tAdv S)).2.2 ((tLs 124 0 5 (tAdv S)).2.1 50 0) ((tLs 124 0 5 (tAdv S)).2.1 49 0) U) else (tFail (tName (tLs 124 0 5 (tAdv S)).2.1), V1)) else (tFail (tLs 124 0 5 (tAdv S)).2.1, V2)) else ((tLs 124 0 5 (tAdv S)).2.1, V2) := by
  have C := tCau_ls (x := 4 * s + U 33 s) 5 0 (tAdv S) (up U 37 (4 * s + U 33 s) 0) up_s
  unfold tCatch
  rw [if_neg u33, if_pos h40, C]
  generalize tLs 124 0 5 (tAdv S) = TT
  unfold tCatch2
  refine ⟨up (up (nW 37 38 39 (4 * s + U 33 s) TT.2.2 (up U 37 (4 * s + U 33 s) 0)) 35 (4 * s + U 33 s) (tName TT.2.1 53 0)) 36 (4 * s + U 33 s) (tName TT.2.1 54 0), nW 37 38 39 (4 * s + U 33 s) TT.2.2 (up U 37 (4 * s + U 33 s) 0), ?_⟩
  show (if TT.1 = true then _ else _) = _
  by_cases ok : TT.1 = true
  · rw [if_pos ok, if_pos ok]
    by_cases n : tIsN TT.2.1 = true
    · obtain ⟨f53, f54, _⟩ := tName_g n
      rw [if_pos n, if_pos n]
      unfold tCatch3
      have v33 : up (up (nW 37 38 39 (4 * s + U 33 s) TT.2.2 (up U 37 (4 * s + U 33 s) 0)) 35 (4 * s + U 33 s) (tName TT.2.1 53 0)) 36 (4 * s + U 33 s) (tName TT.2.1 54 0) 33 s = U 33 s := by
        rw [up_n (by decide), up_n (by decide), nW_g (by decide) (by decide) (by decide), up_n (by decide)]
      by_cases y : tName TT.2.1 51 0 = 41
      · rw [if_pos y, if_pos y, v33]
        unfold tRg
        rw [f53, f54, show U 33 s + 1 - 1 = U 33 s by omega]
      · rw [if_neg y, if_neg y]
    · rw [if_neg n, if_neg n]
  · rw [if_neg ok, if_neg ok]
theorem c_caught (blc : BLC r R w p0) (hPh : PI w Sh Uh) (prh : PR w Uh) (qvh : QV Uh) (cr : CR h v) (md : MD R A T w s p0 v S U o) (cx : CX R w b0 Ah Th vh Uh A T v U (300 * (S 47 0 - Sh 47 0) - 20) (2000 * (S 47 0 - Sh 47 0) - 300)) (hsh : 120 * w + Uh 19 w ≤ s) (n0 : 0 ≤ Uh 19 w) (tf : TF v A T U w s a e o l5 l6 l7 l9 M (U 33 s)) (ea : A 2 s = a) (hMl : M.length ≤ 4) (h9h : hN vh.1 ≤ l9) (u33 : U 33 s ≠ 4)
    (g0 : tGo w (Sh, Uh) (tCatch w s S U)) (hr : 9 - S 55 0 ≤ r) (e55 : S 55 0 = Sh 55 0) (e48 : S 48 0 = Sh 48 0)
    (q1 : ∀ h' v' A' T' S' U', CR h' v' → MD R A' T' w s p0 v' S' U' o → CX R w b0 Ah Th vh Uh A' T' v' U' (300 * (S' 47 0 - Sh 47 0) - 20) (2000 * (S' 47 0 - Sh 47 0) - 300) → TF v' A' T' U' w s a e o l5 l6 l7 l9 M (U' 33 s) → A' 2 s = a → tGo w (tCatch w s S U) (tBehind w s false S' U') → S' 55 0 = S 55 0 → (∀ i, i < S 55 0 → S' 56 i = S 56 i) → S' 48 0 = S 48 0 → S 47 0 ≤ S' 47 0 → U' 33 s = U 33 s + 1 → Q (Sum.inl none) h')
    (q2 : ∀ h' v' p, CR h' v' → WX R Th vh v' Sh (20 - 2 * Sh 55 0) p → doom w (tCatch w s S U) p → Q (Sum.inr (R 2)) h') : Cl (r + 1) 283 [vR (some (R 0)), vR (some a), vR (some e)] h Q := by
  have md' := md
  obtain ⟨g, ⟨hP, pr, qv, w0⟩, ⟨d1, s52⟩, ar, hsA, e22, ch⟩ := md
  have tf' := tf
  obtain ⟨⟨k1, k2, k3, k4, k5, k6, k7⟩, ⟨t1, t2, t3, t4⟩, ⟨nn5, nn6, nn7, nn8⟩, tn, ⟨s1, s2⟩, ⟨s3, s4⟩, ao, ⟨cn, cb⟩, ⟨u1, u2, u3⟩, ⟨u4, u5⟩⟩ := tf
  have h33 := QV_b qv (f := 33) (c := 4) rfl rfl rfl s
  have h33' : 0 ≤ U 33 s ∧ U 33 s < 4 := ⟨h33.1, by omega⟩
  obtain ⟨g1, g2, g3, g4, g5, g6, _, ⟨L0, ga, gb⟩, _⟩ := g
  have g : GI R A T w s p0 v S U := md'.1
  have k0 := g1.w0.1
  have kk2 := g1.w0.2.1
  have kR9 := g.k9
  have tR9 := g6.2.2.2.2.2.2.1.2.1
  have n99 : l9 ≠ R 9 := fun q => by rw [q, tR9] at t4; exact absurd t4 (by decide)
  have si := g1.2.1
  have tk := g1.2.2.1
  have le := g1.le
  have a47 := tAdv_47 si
  have si1 := SI_adv si
  have tk1 := TK_adv si.1
  have b47 := tAdv_47 si1
  have e521 : tAdv S 52 0 = -1 := by rw [tAdv_52]; exact s52
  have e481 : tAdv S 48 0 = S 48 0 := by rw [tAdv_55.2.2.1]
  have d8 := si.2.2.2.2.2.2.2
  have len : (insA [] L0).length ≤ 2700 := by
    rw [insA_len, List.length_nil, gb.length_eq]
    have := mPar_len (w := w) qv
    omega
  have cpl := ML_cp g qv
  have hvh := cx.1.1.1
  -- a failure of the head
  have bad : ∀ h' v' p n m, CR h' v' → Fw (XK R l9) v v' → RM (R 9) v v' n m → n ≤ 300 * (S 48 0 - S 47 0) + 60 → m ≤ 2000 * (S 48 0 - S 47 0) + 800 → hI v'.1 (R 2) 6 = iI p → vCp v' (R 9) ≤ 6000 → doom w (tCatch w s S U) p → Q (Sum.inr (R 2)) h' := fun h' v' p n m c' f rm hn hm i6 cp dm => by
    refine q2 h' v' p c' ⟨(cx.1.fw f (fun b k y => ?_) rm).le (by omega) (by omega), i6, cp⟩ dm
    rcases y with (y | y) | y | y
    · exact Or.inr (Or.inl ⟨y.1, by omega⟩)
    · exact Or.inr (Or.inr (Or.inl y))
    · by_cases q : b < hN vh.1
      · exact Or.inr (Or.inr (Or.inr (Or.inl ⟨y.2, by rw [← cx.2.2.1 b q, y.1]; exact Or.inr tR9⟩)))
      · exact Or.inl (by omega)
    · exact Or.inl (by rw [y.1]; exact h9h)
  have qk : ∀ b k, (Xq (R 0) (R 2) b k ∨ (b = l9 ∧ k = 99)) → XK R l9 b k := fun b k y => by
    rcases y with (y | y) | y
    · exact Or.inl (Or.inl ⟨y.1, by omega⟩)
    · exact Or.inl (Or.inr y)
    · exact Or.inr (Or.inr y)
  refine cg_head cr md' k1 k6 s3 t4 (by rw [s4, rowL_len]; omega) ga (fun x40 z2 h4 v4 c4 f4 kc4 c04 c14 i44 kl4 ls4 l94 t4' ml4 rm4 nb4 => ?_) (fun h4 v4 p c4 f4 rm4 i6 cp4 z1 z2 => ?_)
  · obtain ⟨V1, V2, TC⟩ := tCatch_e (w := w) u33 x40
    have ST := tLs_st (sp := 124) 5 0 (tAdv S) rfl (by decide) si1 tk1 e521
    have TT := tLs_tks (sp := 124) 5 0 (tAdv S) si1 tk1
    generalize hTL : tLs 124 0 5 (tAdv S) = TL at *
    generalize hX : TL.2.1 = X at *
    generalize hNN : TL.2.2 = N at *
    generalize hok : TL.1 = ok at *
    obtain ⟨ST1, ST2, ST3, ST4, ST5, ST6, ST7, ST8, ST9⟩ := ST
    have x48 : X 48 0 = S 48 0 := by rw [ST7]; exact e481
    have xle : X 47 0 ≤ S 48 0 := by have := ST3.1.2.1; omega
    have k04 := f4.kk k0 (by decide)
    have nca : hN v.1 ≠ R 0 := by have := hK_lt k0 (by decide); omega
    have x4 : ∀ b k, (Xq (R 0) (R 2) b k ∨ (b = l9 ∧ k = 99)) → ((hK v.1 b = 2 ∨ hK v.1 b = 3) ∧ k ≠ 7 ∧ k ≠ 99) ∨ (b = l9 ∧ k = 99) := fun b k y => by
      rcases y with (y | y) | y
      · exact Or.inl ⟨Or.inl (by rw [y.1]; exact k0), by omega⟩
      · exact Or.inl ⟨Or.inr (by rw [y.1]; exact kk2), by omega⟩
      · exact Or.inr y
    have ru4 : RUn v4 (R 0) (R 3) (R 5) (R 9) := RUn_fw f4 g2 (fun y => by rcases x4 _ _ y with z | z <;> omega) (fun k hk y => by have := g2.2.2.1; rcases x4 _ _ y with z | z <;> omega)
    have km4 := KMp_fw f4 g3 (fun y => by have := g3.2.2.1; rcases x4 _ _ y with z | z; omega; rw [z.1, s3] at this; omega)
    have l5r : R 5 < hN v.1 := hK_lt g3.2.2.1 (by decide)
    have lR9 := hK_lt kR9 (by decide)
    -- frames from the beginning
    have FK : ∀ v', Fw (XH R (hN v.1) (hN v.1 + 1)) v4 v' → Fw (XK R l9) v v' := fun v' f => (f4.mono qk).tr2 f (fun b k y => by
      rcases y with y | y | y
      · exact Or.inr (Or.inl y)
      · rcases y.1 with z | z
        · exact Or.inr (Or.inr (Or.inl ⟨z, y.2⟩))
        · exact Or.inl (by omega)
      · exact Or.inl (by omega))
    have xk : ∀ b k, XK R l9 b k → (hK v.1 b = 2 ∨ hK v.1 b = 3 ∨ (hK v.1 b = 4 ∧ k = 99)) := fun b k y => by
      rcases y with (y | y) | y | y
      · exact Or.inl (by rw [y.1]; exact k0)
      · exact Or.inr (Or.inl (by rw [y.1]; exact kk2))
      · exact Or.inr (Or.inr ⟨by rw [y.1]; exact kR9, y.2⟩)
      · exact Or.inr (Or.inr ⟨by rw [y.1]; exact s3, y.2⟩)
    have aoF : ∀ v', Fw (XH R (hN v.1) (hN v.1 + 1)) v4 v' → AO v' e o none none false (some a) := fun v' f => AO_fw (FK v' f) (fun k y => by have := xk _ _ y; have := ao.1; omega) ao
    have arF : ∀ v', Fw (XH R (hN v.1) (hN v.1 + 1)) v4 v' → AR v' A U (U 22 s + 2).toNat (U 22 s) o := fun v' f => AR_fw (FK v' f) (fun b k y => by have := xk _ _ y; exact ⟨by omega, fun q => by omega, fun q => by omega⟩) _ _ _ ar
    have dX : ok = true → X 52 0 = -1 := ST1
    refine cg_mid (b := U 22 s) (o := o) (a := a) (e := e) c4 t4' si1 tk1 e521 z2 ru4 ml4 len km4 (by omega) kc4 c14 (by omega) (by omega) kl4 ls4 aoF arF ?_ ?_
    · rw [hTL, hX, hNN, hok]
      intro ok' xn y41 z3 h9 v9 l4' c9 f9 t9 tx9 nl9 ml9 rm9
      obtain ⟨nn1, nn2, n55, n56, n48, n52, n47⟩ := nm_name ST3 ST4 xn
      have d47 := tAdv_47 nn1
      have x52 := dX ok'
      have F9 := FK v9 f9
      have TKS : Tks S (tAdv (tName X)) := (((Tks_adv si tk).tr TT).tr (Tks_name ST3 ST4)).tr (Tks_adv nn1 nn2)
      have nh : ∀ k, k ≠ 2 → ¬ XH R (hN v.1) (hN v.1 + 1) (hN v.1) k := fun k hk y => by
        have l0 := hK_lt k0 (by decide)
        have l2 := hK_lt kk2 (by decide)
        rcases y with (y | y) | y | y
        · omega
        · omega
        · omega
        · omega
      have fc := fun j hj => f9.ff (a := hN v.1) (k := j) (by omega) (nh j hj)
      have kc9 := f9.kk kc4 (by decide)
      have c09 : hR v9.1 (hN v.1) 0 = some (A 2 s) := by rw [(fc 0 (by decide)).2.2, ea]; exact c04
      have c19 : hR v9.1 (hN v.1) 1 = some (hN v.1 + 1) := by rw [(fc 1 (by decide)).2.2]; exact c14
      have i49 : hI v9.1 (hN v.1) 4 = 0 := by rw [(fc 4 (by decide)).1]; exact i44
      rw [if_pos ok', if_pos xn, if_pos y41] at TC
      have TC2 : tCatch w s S U = tOpn w 6 s (U 33 s) 34 (4 * s + U 33 s) (tAdv (tName X)) (tRg s N (X 50 0) (X 49 0) (up U 34 (4 * s + U 33 s) (-1))) := by rw [tRg_34, tOpn_34]; exact TC
      have P2 := And.intro (tGo_PI g0 hPh) (And.intro (tGo_PR g0 w0 hPh qvh prh) (tGo_QV g0 w0 hPh qvh))
      rw [TC2] at P2
      have qvV := QV_rg qv P2.2.2
      have hNl : N.length ≤ 4 := by omega
      obtain ⟨mdr, cxr⟩ := MD_reg (L0 := L0) (ca := hN v.1) (lk := hN v.1 + 1) (S' := tAdv (tName X)) md' cx hsh n0 u1 h33' hNl t4 s3 h9h (Nat.le_refl _) (by omega) (by omega) F9 t9 TKS (by rw [tAdv_52, n52]; exact x52) (by omega) gb ml9 kc9 c09 c19 tx9 i49 nl9 (rm4.trans rm9) qvV
      have vv := tRg_v (s := s) (N := N) (x := X 50 0) (p := X 49 0) (U := up U 34 (4 * s + U 33 s) (-1)) s
      have vc := tRg_v (s := s) (N := N) (x := X 50 0) (p := X 49 0) (U := up U 34 (4 * s + U 33 s) (-1)) (4 * s + U 33 s)
      have e33 : up U 34 (4 * s + U 33 s) (-1) 33 = U 33 := up_n (by decide)
      rw [e33] at vv vc
      have V33 : tRg s N (X 50 0) (X 49 0) (up U 34 (4 * s + U 33 s) (-1)) 33 s = U 33 s + 1 := by rw [vv.1, if_pos rfl]
      have V35 : tRg s N (X 50 0) (X 49 0) (up U 34 (4 * s + U 33 s) (-1)) 35 (4 * s + U 33 s) = X 50 0 := by rw [vc.2.1, if_pos rfl]
      have Vo : ∀ f, f ≠ 33 ∧ f ≠ 35 ∧ f ≠ 36 ∧ f ≠ 37 ∧ f ≠ 38 ∧ f ≠ 39 → f ≠ 34 → tRg s N (X 50 0) (X 49 0) (up U 34 (4 * s + U 33 s) (-1)) f = U f := fun f h1 h2 => by rw [tRg_o h1, up_n h2]
      have V34 : ∀ k, k < U 33 s → tRg s N (X 50 0) (X 49 0) (up U 34 (4 * s + U 33 s) (-1)) 34 (4 * s + k) = U 34 (4 * s + k) := fun k hk => by rw [tRg_o (by decide), up_eq, if_neg (fun q => by omega)]
      generalize hV : tRg s N (X 50 0) (X 49 0) (up U 34 (4 * s + U 33 s) (-1)) = V at *
      -- the object around the body
      have nn9 := c9.hn
      have k09 := mdr.1.1.w0.1
      rw [sX1_caught_177, sX1_caught_180, sX1_caught_181, sX1_caught_182 (by rw [nw_h]; decide) (by rw [nw_h]; decide), c_iAround nw_h, Kt_0, sX1_caught_185, sX1_caught_187, sX1_caught_189, sX1_caught_190 (by rw [hK_putR]; exact nw_h), sX1_caught_193, sX1_caught_194, sX1_caught_195, sX1_caught_197 (by rw [hK_putR, hK_putR, hK_newC, if_neg (by rw [nn9]; have := hK_lt k09 (by decide); omega)]; exact c9.kk k09 (by decide)), nn9]
      have c10 := CR_pR (k := 2) (z := some (hN v.1)) (CR_pR (k := 0) (z := some e) (CR_nw (m := 20) (n := 5) c9 rfl) nw_k rfl) (by exact nw_k) rfl
      have f10 : Fw (fun _ _ => False) v9 (vpR (vpR (vnw v9 20 5) (hN v9.1) 0 (some e)) (hN v9.1) 2 (some (hN v.1))) := (Fw.refl.nw.pR (Or.inl (Nat.le_refl _))).pR (Or.inl (Nat.le_refl _))
      have ao1 : AO (vpR (vpR (vnw v9 20 5) (hN v9.1) 0 (some e)) (hN v9.1) 2 (some (hN v.1))) (hN v9.1) (some e) none (some (hN v.1)) false none := by
        refine ⟨nw_k, ?_, ?_, ?_, ?_, ?_⟩
        · rw [vpR_1, hR_putR, if_neg (fun y => absurd y.2 (by decide)), vpR_1, hR_putR, if_pos ⟨rfl, rfl⟩]
        · rw [vpR_1, hR_putR, if_neg (fun y => absurd y.2 (by decide)), vpR_1, hR_putR, if_neg (fun y => absurd y.2 (by decide)), vnw_1, hR_newC, if_pos rfl]
        · rw [vpR_1, hR_putR, if_pos ⟨rfl, rfl⟩]
        · rw [vpR_1, hI_putR, vpR_1, hI_putR, vnw_1, hI_newC, if_pos rfl]
          rfl
        · rw [vpR_1, hR_putR, if_neg (fun y => absurd y.2 (by decide)), vpR_1, hR_putR, if_neg (fun y => absurd y.2 (by decide)), vnw_1, hR_newC, if_pos rfl]
      have m10 : hN (vpR (vpR (vnw v9 20 5) (hN v9.1) 0 (some e)) (hN v9.1) 2 (some (hN v.1))).1 = hN v9.1 + 1 := rfl
      have s10 : hS (vpR (vpR (vnw v9 20 5) (hN v9.1) 0 (some e)) (hN v9.1) 2 (some (hN v.1))).1 = hS v9.1 + 5 := rfl
      generalize (vpR (vpR (vnw v9 20 5) (hN v9.1) 0 (some e)) (hN v9.1) 2 (some (hN v.1))) = v10 at *
      generalize (putR (putR (newC h9 20 5) (hN v9.1) 0 (some e)) (hN v9.1) 2 (some (hN v.1))) = h10 at *
      have md10 := MD_0 mdr f10
      have cx10 := CX_0 (n := 1) (m := 5) cxr f10 mdr.1.k9 (by omega) (by omega) (by omega)
      have F10 : Fw (XK R l9) v v10 := F9.trans (f10.mono (fun _ _ y => y.elim))
      have kc10 := f10.kk kc9 (by decide)
      have hsA10 := md10.2.2.2.2.1
      have ao10 : AO v10 e o none none false (some (Aec A (4 * s + U 33 s) (hN v.1) 2 s)) := by
        rw [Aec_o (Or.inl (by decide)), ea]
        exact AO_fw F10 (fun k y => by have := xk _ _ y; have := ao.1; omega) ao
      have S955 : tAdv (tName X) 55 0 = S 55 0 := by rw [tAdv_55.1, n55, ST5, tAdv_55.1]
      have S956 : tAdv (tName X) 56 = S 56 := by rw [tAdv_55.2.1, n56, ST6, tAdv_55.2.1]
      have S948 : tAdv (tName X) 48 0 = S 48 0 := by rw [tAdv_55.2.2.1, n48]; exact x48
      have tx10 : TXn v10 (hR v10.1 (hN v.1) 2) (X 50 0) := by
        rw [(f10.ff (k := 2) (hK_lt kc9 (by decide)) (fun y => y)).2.2]
        exact TXn_0 f10 (fun _ y => y.elim) tx9
      have TFr : TF v10 (Aec A (4 * s + U 33 s) (hN v.1)) (Tca T (hN v.1) (hN v.1 + 1)) V w s a e o l5 l6 l7 l9 M (U 33 s) := by
        refine TF_reg tf' F10 (fun b k y => ?_) (Aec_f (by decide)) (fun k i0 i1 => Aec_o (Or.inr (by omega))) (fun b hb => by unfold Tca; rw [if_neg (by omega), if_neg (by omega)]) ?_ (by rw [V33]; omega) (fun f hf => by rw [Vo f (by omega) (by omega)]) (by rw [Vo 40 (by decide) (by decide)]) (fun f i hf _ _ => by rw [Vo f (by omega) (by omega)]) (fun k _ hk => V34 k hk) hMl
        · have y1 := xk _ _ y
          have ao1 := ao.1
          have y99 : k = 99 → b = R 9 ∨ b = l9 := fun q => by
            rcases y with (z | z) | z | z
            · omega
            · omega
            · exact Or.inl z.1
            · exact Or.inr z.1
          refine ⟨fun q => by rw [q] at y1; omega, fun q => by rw [q] at y1; omega, fun q => ?_, fun q => by omega, by omega, by omega, fun q => by omega⟩
          rcases y99 q with z | z
          · rw [z]
            exact ⟨fun q => by rw [← q, tR9] at t1; omega, fun q => by rw [← q, tR9] at t2; omega, fun q => by rw [← q, tR9] at t3; omega⟩
          · rw [z]
            exact ⟨nn5, nn6, nn7⟩
        · have l9lt := hK_lt s3 (by decide)
          have e1 : vLs v10 l9 = vLs v l9 ++ [some (hN v.1)] := by
            rw [(f10.cc (hK_lt (F9.kk s3 (by decide)) (by decide)) (fun y => y)).1, (f9.cc (hK_lt (f4.kk s3 (by decide)) (by decide)) (fun y => by
              rcases y with (y | y) | y | y
              · omega
              · omega
              · rcases y.1 with z | z
                · exact n99 z
                · omega
              · omega)).1]
            exact l94
          rw [e1, s4, V33, rowL_snoc h33'.1, Aec_4]
          congr 1
          exact rowL_congr (fun k i0 i1 => (Aec_o (Or.inr (by omega))).symm)
      refine own_md (what := 6) (num := U 33 s) (f := 34) (i := 4 * s + U 33 s) (Sh := Sh) blc c10 md10 (by rw [S955]; exact hr) ⟨by decide, fun z => absurd z (by decide)⟩ cx10 hsh n0 (Or.inr ⟨rfl, by omega, by omega⟩) (fun _ => P2) (fun p hx => AR_6 md10.2.1.2.1 md10.2.1.2.2.1 hsA10 w0.1 p hx md10.2.2.2.1 h33'.1 (by rw [Aec_4]; exact ao1) ao10 ?_)
        (fun p h11 v11 A3 T3 S3 U3 c11 md11 cx11 ae11 ts11 mf11 fu11 hsB go11 n51 x55 x56 e48' lt fb11 ⟨e41, e42⟩ ⟨w20, w33, w30, w25, w26, ab11⟩ => ?_) (by omega) (by omega) (by rw [S955]; exact e55) (by rw [S948]; exact e48) (fun h' v' p c' wx y => ?_)
      · obtain ⟨nm, y1, y2, y3, y4⟩ := tx10
        refine ⟨by rw [Aec_4]; exact kc10, nm, by rw [Aec_4]; exact y1, y2, ?_, y4⟩
        rw [oU_o (by decide) (by decide), V35]
        exact y3
      · obtain ⟨o1, o2, o3, o4, o5, o6⟩ := oU_v (w := w) (what := 6) (own := s) (num := U 33 s) (f := 34) (i := 4 * s + U 33 s) (S := tAdv (tName X)) (U := V) p (by decide)
        have rg : (4 * s + U 33 s) / 4 = s := by omega
        have rm' : (4 * s + U 33 s) % 4 = U 33 s := by omega
        have eca : A3 4 (4 * s + U 33 s) = hN v.1 := by rw [ae11.2.2.1 _ (by rw [rg]; exact hsA10) (by rw [rg, rm', V33]; omega), Aec_4]
        have kc11 := mf11.kk kc10 (by decide)
        have ea11 : A3 2 s = a := by rw [(ae11.1 s hsA10).1, Aec_o (Or.inl (by decide))]; exact ea
        have u33' : U3 33 s = U 33 s + 1 := by rw [w33]; exact V33
        have u34' : U3 34 (4 * s + U 33 s) = w * 1024 + V 40 w := by rw [fu11.fn (f := 34) hsB (by decide) (by omega)]; exact o6
        rw [Kt_v, sX1_caught_200 (c11.kk kc11 (by decide)), sX1_caught_203]
        have c12 := CR_pR (k := 3) (z := some (A3 3 (w * 1024 + V 40 w))) c11 kc11 rfl
        have md12 := MD_c3 (c := 4 * s + U 33 s) (z := some (A3 3 (w * 1024 + V 40 w))) md11 rg (by rw [rm', u33']; omega)
        rw [eca] at md12
        have cx12 := cx11.pR (e := hN v.1) (k := 3) (z := some (A3 3 (w * 1024 + V 40 w))) hvh
        have TF11 : TF v11 A3 T3 U3 w s a e o l5 l6 l7 l9 M (U 33 s) := by
          have tgT := md10.1.2.2.2.2.1.1
          have TFr' := TFr
          obtain ⟨⟨j1, _⟩, ⟨j5, j6, j7, j9⟩, _, jtn, _, _, jao, _⟩ := TFr'
          have k010 := md10.1.1.w0.1
          have k210 := md10.1.1.w0.2.1
          refine TF_go TFr mf11 (fun b k y => ?_) (fun b hb => ae11.2.1 b hb) (fun k i0 i1 => ae11.2.2.1 _ (by rw [show (4 * s + k) / 4 = s by omega]; exact hsA10) (by rw [show (4 * s + k) / 4 = s by omega, show (4 * s + k) % 4 = k by omega]; exact i1)) ts11 (by omega) (fun b hb => fu11.aB ⟨hb.1, by have := hb.2; omega⟩) (fun f hf => by rw [fu11.fs hsB (by omega) (by omega) (by omega), oU_o (by omega) (by omega)]) (fun f i hf i0 i1 => by rw [fu11.fn hsB (by omega) i1, oU_o (by omega) (by omega)]) (fun k i0 i1 => ?_) hMl
          · have t0 : hK v10.1 b ≠ 0 → hK v10.1 b ≠ 4 → hK v10.1 b ≠ 22 → Tca T (hN v.1) (hN v.1 + 1) b = 0 := fun h1 h2 h3 => tgT b h1 h2 h3
            rcases y with y | y | y | y
            · refine ⟨fun q => ?_, fun q => ?_, fun q => by omega, fun q => ?_, ?_, ?_, fun q => by omega⟩
              · rw [y.1] at q
                rw [← q, k010] at j1
                omega
              · have := jao.1
                rw [← q, y.1, k010] at this
                omega
              · rw [y.1, k010] at q
                omega
              · rw [y.1, k010]; decide
              · rw [y.1, k010]; decide
            · refine ⟨fun q => ?_, fun q => ?_, fun q => by omega, fun q => by omega, ?_, ?_, fun q => by omega⟩
              · rw [y.1] at q
                rw [← q, k210] at j1
                omega
              · have := jao.1
                rw [← q, y.1, k210] at this
                omega
              · rw [y.1, k210]; decide
              · rw [y.1, k210]; decide
            · refine ⟨fun q => ?_, fun q => ?_, fun _ => ⟨fun q => ?_, fun q => ?_, fun q => ?_, fun q => ?_⟩, fun _ => by omega, fun q => ?_, fun q => ?_, fun _ q => ?_⟩
              · have := t0 (by rw [q, j1]; decide) (by rw [q, j1]; decide) (by rw [q, j1]; decide)
                omega
              · have := jao.1
                have := t0 (by rw [q, this]; decide) (by rw [q, this]; decide) (by rw [q, this]; decide)
                omega
              · rw [q] at y
                omega
              · rw [q] at y
                omega
              · rw [q] at y
                omega
              · rw [q] at y
                omega
              · have := t0 (by rw [q]; decide) (by rw [q]; decide) (by rw [q]; decide)
                omega
              · have := t0 (by rw [q]; decide) (by rw [q]; decide) (by rw [q]; decide)
                omega
              · have := t0 (by rw [q]; decide) (by rw [q]; decide) (by rw [q]; decide)
                omega
            · refine ⟨fun q => ?_, fun q => ?_, fun q => by omega, fun _ => by omega, fun q => ?_, fun q => ?_, fun q => by omega⟩
              · have := t0 (by rw [q, j1]; decide) (by rw [q, j1]; decide) (by rw [q, j1]; decide)
                omega
              · have := jao.1
                have := t0 (by rw [q, this]; decide) (by rw [q, this]; decide) (by rw [q, this]; decide)
                omega
              · have := t0 (by rw [q]; decide) (by rw [q]; decide) (by rw [q]; decide)
                omega
              · have := t0 (by rw [q]; decide) (by rw [q]; decide) (by rw [q]; decide)
                omega
          · rw [fu11.fn (f := 34) hsB (by decide) (by omega)]
            unfold oU
            rw [up_eq, if_neg (fun q => by omega), tOU_o (by decide)]
        have TF12 := TF_c3 (ca := hN v.1) TF11 u33' eca kc11 (fun k i0 i1 q => ?_) (by rw [u34']; exact ab11)
        · rw [u34', ← u33'] at TF12
          have sh : tShut w (w * 1024 + V 40 w) S3 U3 = tBehind w s false S3 U3 := by
            unfold tShut
            rw [e41, e42, if_neg (by decide), if_neg (by decide), if_neg (by decide), if_neg (by decide), if_pos rfl]
          rw [sh] at go11
          refine q1 _ _ A3 T3 S3 U3 c12 md12 ⟨cx12.1.le (by omega) (by omega), cx12.2⟩ TF12 ea11 (by rw [TC2]; exact go11) (by omega) (fun i hi => by rw [x56 i (by omega), S956]) (by omega) (by omega) u33'
        · rw [ae11.2.2.1 _ (by rw [show (4 * s + k) / 4 = s by omega]; exact hsA10) (by rw [show (4 * s + k) / 4 = s by omega, show (4 * s + k) % 4 = k by omega, V33]; omega), Aec_o (Or.inr (by omega))] at q
          obtain ⟨_, y2, _⟩ := cb k i0 i1
          have := hK_lt y2 (by decide)
          omega
      · rw [Kt_x]
        exact q2 h' v' p c' wx (by rw [TC2]; exact y)
    · rw [hTL, hX, hok]
      intro h9 v9 p c9 f9 rm9 i6 cp9 fc
      refine bad h9 v9 p _ _ c9 (FK v9 f9) (rm4.trans rm9) (by omega) (by omega) i6 cp9 ?_
      rw [TC]
      obtain ⟨fc1, fc2, fc3, fc4⟩ := fc
      by_cases ok' : ok = true
      · rw [if_pos ok']
        by_cases xn : tIsN X = true
        · obtain ⟨nn1, nn2, n55, n56, n48, n52, n47⟩ := nm_name ST3 ST4 xn
          rw [if_pos xn]
          by_cases y41 : tName X 51 0 = 41
          · obtain ⟨y1, y2⟩ := fc4 ok' xn y41
            rw [if_pos y41, y2]
            exact doom_opn (by rw [tAdv_52, n52]; exact dX ok') (SI_adv nn1) (fun q => by have := (tIsO_iff.mp q).1; omega) (fun _ => rfl)
          · rw [if_neg y41, fc3 ok' xn y41]
            exact doom_fail (by rw [n52]; exact dX ok') nn1
        · rw [if_neg xn, fc2 ok' xn]
          exact doom_fail (dX ok') ST3
      · rw [if_neg ok', fc1 ok']
        exact ⟨_, tGo_refl _, rfl, ST2 ok'⟩
  · refine bad h4 v4 p _ _ c4 (f4.mono qk) rm4 (by omega) (by omega) i6 (by rw [cp4]; omega) ?_
    by_cases x40 : tAdv S 51 0 = 40
    · obtain ⟨y1, y2⟩ := z2 x40
      obtain ⟨V1, V2, TC⟩ := tCatch_e (w := w) u33 x40
      have s50 : tAdv (tAdv S) 50 0 = 0 := (TK_adv si1.1).2.2.2 (by omega)
      have E := tLs_x (sp := 124) (n := 0) (d := 4) (S := tAdv S) (Or.inr (fun q => (tIsN_iff.mp q).1 s50))
      rw [TC, E, y2]
      show doom w (if false = true then _ else (tFail (tAdv (tAdv S)), V2)) _
      rw [if_neg (by decide)]
      exact doom_fail (by rw [tAdv_52]; exact e521) (SI_adv si1)
    · rw [z1 x40]
      unfold tCatch
      rw [if_neg u33, if_neg x40]
      exact doom_fail e521 si1
end CA5
