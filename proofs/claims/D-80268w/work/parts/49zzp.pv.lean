/-! JDK: maps, 9: putTreeVal *-/
section PVL
variable {B : Nat → Prop} {h : am_H} {v : vT} {r m t a b rt ix : Nat} {z : Option Nat} {lo hi : Nat → Int} {Q : am_O → am_H → Prop} {T : List Int32}
theorem ndN_eq2 {h h' : am_H} {x : Nat} (e1 : hI h' x 0 = hI h x 0) (e2 : hR h' x 1 = hR h x 1) : ndN h' v x = ndN h v x := by
  unfold ndN ndT
  rw [e1, e2]
theorem v_putTree (tr : isTr h v B rt lo hi) (nd : ∀ x, B x → ndF h v x) (lt : ∀ x, B x → x < hN h) (s : RS h a b T) (kT : okK T) (tv : vTx v a = T) (new : ∀ x, B x → ndT h v x ≠ T) (ku : hE h 33 = hE h 33) (k8 : T.length = 8 → hK h b = 44)
    (km : hK h m = 6) (tk : hK h t = 48) (tl : hL h t = 64) (tn : t < hN h) (bx : ∀ x, B x → bIx 64 (hI h x 0) = ix) (ib : bIx 64 (sprd (hashS T)) = ix) (f : hR h t ix = some rt) (nb : isNb h B) (nx : hR h rt 3 ≠ none) (w1 : lo rt < keyN (sprd (hashS T)) T) (w2 : keyN (sprd (hashS T)) T < hi rt)
    (post : ∀ h' rt' lo' hi', BCh (fun y => B y ∨ y = hN h) t ix h h' → hN h' = hN h + 1 → hS h' = hS h + 11 → hK h' (hN h) = 13 → hI h' (hN h) 0 = sprd (hashS T) → hR h' (hN h) 1 = some a → hR h' (hN h) 2 = z → isTr h' v (fun y => B y ∨ y = hN h) rt' lo' hi' → isNb h' (fun y => B y ∨ y = hN h) → hR h' t ix = some rt' → hR h' rt' 3 ≠ none → lo' rt' = lo rt → hi' rt' = hi rt → Q (Sum.inl (some (vR none))) h') :
    Cl r 208 [vR (some rt), vR (some m), vR (some t), vI (sprd (hashS T)), vR (some a), vR z] h Q := by
  have k13r := (tr.2.2.2.1 rt tr.1).1
  have bn : ¬ B (hN h) := fun w => by have := lt _ w; omega
  rw [eJ21_putTreeVal, sJ21_putTreeVal_0, sJ21_putTreeVal_1, sJ21_putTreeVal_3, sJ21_putTreeVal_4, sJ21_putTreeVal_6, sJ21_putTreeVal_7 k13r, tr.2.1, sJ21_putTreeVal_10, if_pos rfl, sJ21_putTreeVal_20, sJ21_putTreeVal_21, sJ21_putTreeVal_23, sJ21_putTreeVal_25]
  refine pt_loop tr nd s kT new ku k8 (fun xp dv kc l11 l12 l14 l15 bxp go => ?_) _ rt tr.1 (Nat.le_refl _) w1 w2 _ _ _ _ _ _ _ (Or.inl rfl)
  have kxp := (tr.2.2.2.1 xp bxp).1
  have lxp := lt xp bxp
  rw [sJ21_putTreeVal_221, sJ21_putTreeVal_223 kxp, sJ21_putTreeVal_226, sJ21_putTreeVal_228, sJ21_putTreeVal_229, sJ21_putTreeVal_230, sJ21_putTreeVal_232, sJ21_putTreeVal_234, sJ21_putTreeVal_236 km, nd_new13 km, Kt_v, sJ21_putTreeVal_239, sJ21_putTreeVal_241, sJ21_putTreeVal_243]
  -- the heap with the node alone
  have K1 : ∀ x, B x → hI (ndNew h 13 11 (sprd (hashS T)) (some a) z (hR h xp 3)) x 0 = hI h x 0 ∧ ∀ k, hR (ndNew h 13 11 (sprd (hashS T)) (some a) z (hR h xp 3)) x k = hR h x k := fun x hx => by
    have := lt x hx
    exact ⟨hI_nd (by omega), fun k => hR_nd (by omega)⟩
  have kk1 : ∀ x, B x ∨ x = hN h → hK (ndNew h 13 11 (sprd (hashS T)) (some a) z (hR h xp 3)) x = 13 := fun x hx => by
    rcases hx with hx | hx
    · have := lt x hx
      rw [hK_nd (by omega)]
      exact (tr.2.2.2.1 x hx).1
    · rw [hx]; exact hK_ndn
  have t1 : tR B rt (ndN (ndNew h 13 11 (sprd (hashS T)) (some a) z (hR h xp 3)) v) (fun x => hR (ndNew h 13 11 (sprd (hashS T)) (some a) z (hR h xp 3)) x 4) (fun x => hR (ndNew h 13 11 (sprd (hashS T)) (some a) z (hR h xp 3)) x 5) (fun x => hR (ndNew h 13 11 (sprd (hashS T)) (some a) z (hR h xp 3)) x 6) lo hi :=
    tR_congr (fun x hx => ⟨ndN_eq2 (K1 x hx).1 ((K1 x hx).2 1), (K1 x hx).2 4, (K1 x hx).2 5, (K1 x hx).2 6⟩) tr.tr
  have n0 : hR (ndNew h 13 11 (sprd (hashS T)) (some a) z (hR h xp 3)) (hN h) 5 = none := by rw [hR_ndn]; rfl
  have n1 : hR (ndNew h 13 11 (sprd (hashS T)) (some a) z (hR h xp 3)) (hN h) 6 = none := by rw [hR_ndn]; rfl
  have n2 : hR (ndNew h 13 11 (sprd (hashS T)) (some a) z (hR h xp 3)) (hN h) 1 = some a := by rw [hR_ndn]; rfl
  have n3 : hR (ndNew h 13 11 (sprd (hashS T)) (some a) z (hR h xp 3)) (hN h) 2 = z := by rw [hR_ndn]; rfl
  have n4 : hR (ndNew h 13 11 (sprd (hashS T)) (some a) z (hR h xp 3)) (hN h) 7 = none := by rw [hR_ndn]; rfl
  have n5 : hR (ndNew h 13 11 (sprd (hashS T)) (some a) z (hR h xp 3)) (hN h) 3 = hR h xp 3 := by rw [hR_ndn]; rfl
  have n6 : hI (ndNew h 13 11 (sprd (hashS T)) (some a) z (hR h xp 3)) (hN h) 0 = sprd (hashS T) := hI_ndn
  have KN : ndN (ndNew h 13 11 (sprd (hashS T)) (some a) z (hR h xp 3)) v (hN h) = keyN (sprd (hashS T)) T := by
    unfold ndN ndT
    rw [n6, n2]
    show keyN _ (vTx v a) = _
    rw [tv]
  have nb1 : isNb (ndNew h 13 11 (sprd (hashS T)) (some a) z (hR h xp 3)) (fun y => B y ∨ y = hN h) := by
    intro x y hx q
    rcases hx with hx | hx
    · rw [(K1 x hx).2 3, (K1 x hx).2 7] at q
      exact Or.inl (nb x y hx q)
    · rw [hx, n5, n4] at q
      rcases q with q | q
      · exact Or.inl (nb xp y bxp (Or.inl q))
      · cases q
  have bc1 : BCh (fun y => B y ∨ y = hN h) t ix h (ndNew h 13 11 (sprd (hashS T)) (some a) z (hR h xp 3)) := BCh.nd
  have s1 : hN (ndNew h 13 11 (sprd (hashS T)) (some a) z (hR h xp 3)) = hN h + 1 := rfl
  have s2 : hS (ndNew h 13 11 (sprd (hashS T)) (some a) z (hR h xp 3)) = hS h + 11 := rfl
  have s3 : hK (ndNew h 13 11 (sprd (hashS T)) (some a) z (hR h xp 3)) t = 48 := by rw [hK_nd (by omega)]; exact tk
  have s4 : hL (ndNew h 13 11 (sprd (hashS T)) (some a) z (hR h xp 3)) t = 64 := by rw [hL_nd (by omega)]; exact tl
  have s5 : hR (ndNew h 13 11 (sprd (hashS T)) (some a) z (hR h xp 3)) t ix = some rt := by rw [hR_nd (by omega)]; exact f
  have s6 : hR (ndNew h 13 11 (sprd (hashS T)) (some a) z (hR h xp 3)) rt 3 ≠ none := by rw [(K1 rt tr.1).2 3]; exact nx
  have bxA : ∀ x, B x ∨ x = hN h → bIx 64 (hI (ndNew h 13 11 (sprd (hashS T)) (some a) z (hR h xp 3)) x 0) = ix := fun x hx => by
    rcases hx with hx | hx
    · rw [(K1 x hx).1]; exact bx x hx
    · rw [hx, n6]; exact ib
  have K1xp := ndN_eq2 (v := v) (K1 xp bxp).1 ((K1 xp bxp).2 1)
  have K1c := K1 xp bxp
  clear tk tl f nb nx k13r new nd
  generalize ndNew h 13 11 (sprd (hashS T)) (some a) z (hR h xp 3) = g1 at *
  have tne : ∀ y, (B y ∨ y = hN h) → y ≠ t := fun y hy e => by
    have := kk1 y hy
    rw [e, s3] at this
    omega
  have kN : hK g1 (hN h) = 13 := kk1 _ (Or.inr rfl)
  have kx1 : hK g1 xp = 13 := kk1 _ (Or.inl bxp)
  have nxp : xp ≠ hN h := by omega
  -- from the tree with its leaf on
  have rest : ∀ (g2 : am_H) (lo2 hi2 : Nat → Int) (l14 : Option am_V), trH g2 (ndN g1 v) (fun y => B y ∨ y = hN h) rt lo2 hi2 → lo2 rt = lo rt → hi2 rt = hi rt → BCh (fun y => B y ∨ y = hN h) t ix g1 g2 → g2.1 = g1.1 → g2.2.1 = g1.2.1 → (∀ b k, hI g2 b k = hI g1 b k) → (∀ b, hR g2 b 1 = hR g1 b 1 ∧ hR g2 b 2 = hR g1 b 2) → isNb g2 (fun y => B y ∨ y = hN h) → hR g2 t ix = some rt → hR g2 rt 3 ≠ none →
      Rn r 208 298 [some (vR (some rt)), some (vR (some m)), some (vR (some t)), some (vI (sprd (hashS T))), some (vR (some a)), some (vR z), some (vR kc), some (vI 0), some (vR (some rt)), some (vR none), some (vI dv), l11, l12, some (vR (some xp)), l14, some (vR (some (hN h)))] [] g2 Q := by
    intro g2 lo2 hi2 l14 tr2 e1 e2 bc2 c1 c2 c3 c4 nb2 ft2 nx2
    have kg2 : ∀ y, hK g2 y = hK g1 y := fun y => by unfold hK; rw [c1, c2]
    rw [sJ21_putTreeVal_298, sJ21_putTreeVal_299, sJ21_putTreeVal_301, sJ21_putTreeVal_303]
    refine v_balance tr2 (fun x hx => by rw [kg2]; exact kk1 x hx) (Or.inr rfl) (fun g3 rt3 lo3 hi3 tc tr3 e3 e4 => ?_)
    rw [Kt_v, sJ21_putTreeVal_306]
    have k3 : ∀ y, hK g3 y = hK g1 y := fun y => by rw [tc.kk, kg2]
    have i3 : ∀ y k, k ≠ 8 → hI g3 y k = hI g1 y k := fun y k q => by rw [tc.2.2.2.1 y k (fun w => q w.2), c3]
    have ft3 : hR g3 t ix = some rt := by
      rw [tc.2.2.2.2 t ix (fun w => tne t w.1 rfl)]
      exact ft2
    have nb3 : isNb g3 (fun y => B y ∨ y = hN h) := by
      intro x y hx q
      rw [tc.2.2.2.2 x 3 (fun w => by omega), tc.2.2.2.2 x 7 (fun w => by omega)] at q
      exact nb2 x y hx q
    have n3N : hN g3 = hN g1 := by unfold hN; rw [tc.1, c1]
    have n3S : hS g3 = hS g1 := by unfold hS; rw [tc.1, c1]
    refine v_move (fs := rt) (B := fun y => B y ∨ y = hN h) (by rw [k3]; exact s3) (by unfold hL; rw [tc.2.1, c2]; exact s4) (by rw [i3 _ _ (by decide)]; exact bxA rt3 tr3.1) ft3 (Or.inl tr.1) tr3.1 (fun x hx => by rw [k3]; exact kk1 x hx) nb3 (fun g4 mc ft4 nb4 m1 m2 => ?_)
    rw [Kt_0, sJ21_putTreeVal_309, sJ21_putTreeVal_310]
    have k4 : ∀ y, hK g4 y = hK g1 y := fun y => by
      have : hK g4 y = hK g3 y := by unfold hK; rw [mc.1, mc.2.1]
      rw [this, k3]
    have i4 : ∀ y k, k ≠ 8 → hI g4 y k = hI g1 y k := fun y k q => by rw [mc.2.2.2.1, i3 y k q]
    have r4 : ∀ y k, (B y ∨ y = hN h) → (k = 4 ∨ k = 5 ∨ k = 6) → hR g4 y k = hR g3 y k := fun y k hy hk => mc.2.2.2.2 y k (fun w => tne y hy w.1) (fun w => by omega)
    have r1 : ∀ y k, (B y ∨ y = hN h) → (k = 1 ∨ k = 2) → hR g4 y k = hR g1 y k := fun y k hy hk => by
      rw [mc.2.2.2.2 y k (fun w => tne y hy w.1) (fun w => by omega), tc.2.2.2.2 y k (fun w => by omega)]
      rcases hk with rfl | rfl
      · exact (c4 y).1
      · exact (c4 y).2
    refine post g4 rt3 lo3 hi3 ((bc1.trans bc2).trans ((BCh.ofT tc).trans (BCh.ofM mc))) ?_ ?_ (by rw [k4]; exact kN) (by rw [i4 _ _ (by decide)]; exact n6) (by rw [r1 _ _ (Or.inr rfl) (Or.inl rfl)]; exact n2) (by rw [r1 _ _ (Or.inr rfl) (Or.inr rfl)]; exact n3) ?_ nb4 ft4 ?_ (e3.trans e1) (e4.trans e2)
    · have : hN g4 = hN g3 := by unfold hN; rw [mc.1]
      omega
    · have : hS g4 = hS g3 := by unfold hS; rw [mc.1]
      omega
    · refine isTr_of (tR_congr (fun x hx => ⟨?_, r4 x 4 hx (Or.inl rfl), r4 x 5 hx (Or.inr (Or.inl rfl)), r4 x 6 hx (Or.inr (Or.inr rfl))⟩) tr3) (fun x hx => by rw [k4]; exact kk1 x hx)
      exact ndN_eq2 (i4 x 0 (by decide)) (r1 x 1 hx (Or.inl rfl))
    · by_cases e : rt3 = rt
      · rw [m2 e, e, tc.2.2.2.2 rt 3 (fun w => by omega)]
        exact nx2
      · rw [m1 e]
        simp
  -- links to the neighbours
  have links : ∀ (g2 : am_H) (lo2 hi2 : Nat → Int), trH (putR g2 (hN h) 4 (some xp)) (ndN g1 v) (fun y => B y ∨ y = hN h) rt lo2 hi2 → lo2 rt = lo rt → hi2 rt = hi rt → BCh (fun y => B y ∨ y = hN h) t ix g1 g2 → g2.1 = g1.1 → g2.2.1 = g1.2.1 → (∀ b k, hI g2 b k = hI g1 b k) → (∀ b, hR g2 b 1 = hR g1 b 1 ∧ hR g2 b 2 = hR g1 b 2) → isNb g2 (fun y => B y ∨ y = hN h) → hR g2 t ix = some rt → hR g2 rt 3 ≠ none →
      Rn r 208 263 [some (vR (some rt)), some (vR (some m)), some (vR (some t)), some (vI (sprd (hashS T))), some (vR (some a)), some (vR z), some (vR kc), some (vI 0), some (vR (some rt)), some (vR none), some (vI dv), l11, l12, some (vR (some xp)), some (vR (hR h xp 3)), some (vR (some (hN h)))] [] g2 Q := by
    intro g2 lo2 hi2 tr2 e1 e2 bc2 c1 c2 c3 c4 nb2 ft2 nx2
    have kg2 : ∀ y, hK g2 y = hK g1 y := fun y => by unfold hK; rw [c1, c2]
    have kNg : hK g2 (hN h) = 13 := by rw [kg2]; exact kN
    have kxg : hK g2 xp = 13 := by rw [kg2]; exact kx1
    rw [sJ21_putTreeVal_263, sJ21_putTreeVal_265, sJ21_putTreeVal_267 kxg, sJ21_putTreeVal_270, sJ21_putTreeVal_272, sJ21_putTreeVal_274, sJ21_putTreeVal_276, sJ21_putTreeVal_277 (by exact kNg), sJ21_putTreeVal_280 (by exact kNg), sJ21_putTreeVal_283, sJ21_putTreeVal_285]
    have nbA : isNb (putR (putR (putR g2 xp 3 (some (hN h))) (hN h) 7 (some xp)) (hN h) 4 (some xp)) (fun y => B y ∨ y = hN h) := isNb_put (isNb_put (isNb_put nb2 (fun y hy => by cases hy; exact Or.inr rfl)) (fun y hy => by cases hy; exact Or.inl bxp)) (fun y hy => by cases hy; exact Or.inl bxp)
    have bcA : BCh (fun y => B y ∨ y = hN h) t ix g1 (putR (putR (putR g2 xp 3 (some (hN h))) (hN h) 7 (some xp)) (hN h) 4 (some xp)) := bc2.trans (((BCh.pR (Or.inl bxp) (by decide) (by decide)).trans (BCh.pR (Or.inr rfl) (by decide) (by decide))).trans (BCh.pR (Or.inr rfl) (by decide) (by decide)))
    have ftA : hR (putR (putR (putR g2 xp 3 (some (hN h))) (hN h) 7 (some xp)) (hN h) 4 (some xp)) t ix = some rt := by
      rw [hR_putR, if_neg (am_ne (Ne.symm (tne _ (Or.inr rfl)))), hR_putR, if_neg (am_ne (Ne.symm (tne _ (Or.inr rfl)))), hR_putR, if_neg (am_ne (Ne.symm (tne _ (Or.inl bxp))))]
      exact ft2
    have nxA : hR (putR (putR (putR g2 xp 3 (some (hN h))) (hN h) 7 (some xp)) (hN h) 4 (some xp)) rt 3 ≠ none := by
      rw [hR_putR, if_neg (fun w => absurd w.2 (by decide)), hR_putR, if_neg (fun w => absurd w.2 (by decide)), hR_putR]
      split
      · simp
      · exact nx2
    have trA : trH (putR (putR (putR g2 xp 3 (some (hN h))) (hN h) 7 (some xp)) (hN h) 4 (some xp)) (ndN g1 v) (fun y => B y ∨ y = hN h) rt lo2 hi2 := by
      unfold trH at tr2 ⊢
      simp (disch := decide) only [fuR_eq, fuR_ne] at tr2 ⊢
      exact tr2
    have c4A : ∀ b, hR (putR (putR (putR g2 xp 3 (some (hN h))) (hN h) 7 (some xp)) (hN h) 4 (some xp)) b 1 = hR g1 b 1 ∧ hR (putR (putR (putR g2 xp 3 (some (hN h))) (hN h) 7 (some xp)) (hN h) 4 (some xp)) b 2 = hR g1 b 2 := fun b => by
      rw [hR_putR, if_neg (fun w => absurd w.2 (by decide)), hR_putR, if_neg (fun w => absurd w.2 (by decide)), hR_putR, if_neg (fun w => absurd w.2 (by decide)), hR_putR, if_neg (fun w => absurd w.2 (by decide)), hR_putR, if_neg (fun w => absurd w.2 (by decide)), hR_putR, if_neg (fun w => absurd w.2 (by decide))]
      exact c4 b
    cases hn : hR h xp 3 with
    | none =>
      rw [if_pos rfl]
      exact rest _ lo2 hi2 _ trA e1 e2 bcA c1 c2 c3 c4A nbA ftA nxA
    | some y =>
      have bY : B y ∨ y = hN h := nb1 xp y (Or.inl bxp) (Or.inl (by rw [K1c.2 3]; exact hn))
      have ky : hK g2 y = 13 := by rw [kg2]; exact kk1 y bY
      rw [if_neg (by simp), sJ21_putTreeVal_288, sJ21_putTreeVal_290 (by rw [hK_putR, hK_putR, hK_putR, ky]; decide), sJ21_putTreeVal_293, sJ21_putTreeVal_295 (by exact ky)]
      refine rest _ lo2 hi2 _ ?_ e1 e2 (bcA.trans (BCh.pR bY (by decide) (by decide))) c1 c2 c3 (fun b => ?_) (isNb_put nbA (fun y hy => by cases hy; exact Or.inr rfl)) ?_ ?_
      · unfold trH at trA ⊢
        simp (disch := decide) only [fuR_eq, fuR_ne] at trA ⊢
        exact trA
      · exact ⟨by rw [hR_putR, if_neg (fun w => absurd w.2 (by decide))]; exact (c4A b).1, by rw [hR_putR, if_neg (fun w => absurd w.2 (by decide))]; exact (c4A b).2⟩
      · rw [hR_putR, if_neg (am_ne (Ne.symm (tne _ bY)))]
        exact ftA
      · rw [hR_putR, if_neg (fun w => absurd w.2 (by decide))]
        exact nxA
  have rN : rt ≠ hN h := by have := lt rt tr.1; omega
  rcases go with ⟨g0, g5, gl, gk⟩ | ⟨g0, g6, gl, gk⟩
  · rw [if_neg (Int32.not_lt.mpr g0), sJ21_putTreeVal_246, sJ21_putTreeVal_248, sJ21_putTreeVal_250 kx1, sJ21_putTreeVal_253]
    have lf := tR.leafL t1 (n := hN h) bxp bn (by rw [K1c.2 5]; exact g5) (by rw [KN]; exact gl) (by rw [KN, K1xp]; exact gk) n0 n1 (by rw [KN]; exact ⟨w1, w2⟩)
    refine links _ (fu lo (hN h) (lo xp)) (fu hi (hN h) (ndN g1 v xp)) ?_ (by unfold fu; rw [if_neg rN]) (by unfold fu; rw [if_neg rN]) (BCh.pR (Or.inl bxp) (by decide) (by decide)) rfl rfl (fun _ _ => rfl) (fun b => ?_) (isNb_put nb1 (fun y hy => by cases hy; exact Or.inr rfl)) ?_ ?_
    · unfold trH
      simp (disch := decide) only [fuR_eq, fuR_ne]
      exact lf
    · rw [hR_putR, if_neg (fun w => absurd w.2 (by decide)), hR_putR, if_neg (fun w => absurd w.2 (by decide))]
      exact ⟨rfl, rfl⟩
    · rw [hR_putR, if_neg (am_ne (Ne.symm (tne _ (Or.inl bxp))))]
      exact s5
    · rw [hR_putR, if_neg (fun w => absurd w.2 (by decide))]
      exact s6
  · rw [if_pos g0, sJ21_putTreeVal_256, sJ21_putTreeVal_258, sJ21_putTreeVal_260 kx1]
    have lf := tR.leafR t1 (n := hN h) bxp bn (by rw [K1c.2 6]; exact g6) (by rw [KN, K1xp]; exact gl) (by rw [KN]; exact gk) n0 n1 (by rw [KN]; exact ⟨w1, w2⟩)
    refine links _ (fu lo (hN h) (ndN g1 v xp)) (fu hi (hN h) (hi xp)) ?_ (by unfold fu; rw [if_neg rN]) (by unfold fu; rw [if_neg rN]) (BCh.pR (Or.inl bxp) (by decide) (by decide)) rfl rfl (fun _ _ => rfl) (fun b => ?_) (isNb_put nb1 (fun y hy => by cases hy; exact Or.inr rfl)) ?_ ?_
    · unfold trH
      simp (disch := decide) only [fuR_eq, fuR_ne]
      exact lf
    · rw [hR_putR, if_neg (fun w => absurd w.2 (by decide)), hR_putR, if_neg (fun w => absurd w.2 (by decide))]
      exact ⟨rfl, rfl⟩
    · rw [hR_putR, if_neg (am_ne (Ne.symm (tne _ (Or.inl bxp))))]
      exact s5
    · rw [hR_putR, if_neg (fun w => absurd w.2 (by decide))]
      exact s6
end PVL
