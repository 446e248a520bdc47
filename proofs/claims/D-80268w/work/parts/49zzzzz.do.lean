/-! COMPONENT, 41: a statement comes to its end; do and return *-/
section FIN
variable {r a : Nat} {h : am_H} {R : Nat → Nat} {A Ah A' : Nat → Int → Nat} {T Th T' : Nat → Nat} {w s b k p0 c d c1 d1 : Int} {v vh v' : vT} {S S' U Uh U' : tSt} {o : Option Nat} {Q : am_O → am_H → Prop} {l2 l4 l5 l6 l7 l8 l9 l10 l11 l12 : Option am_V}
theorem CX.fx (x : CX R w b Ah Th vh Uh A T v U c d) (h : FX w s U U') (e19 : U' 19 w = U 19 w) (hs : 120 * w + Uh 19 w ≤ s) (h0 : 0 ≤ s) (w0 : 0 ≤ w) (n0 : 0 ≤ Uh 19 w) : CX R w b Ah Th vh Uh A T v U' c d := by
  obtain ⟨x1, x2, x3, x4, x5, x6, x7⟩ := x
  have e22 : ∀ k, As w U k → U' 22 k = U 22 k := fun k hk => h.fs hk (by decide) (by decide) (by decide) (Or.inr (Or.inr (Or.inl rfl)))
  refine ⟨x1, x2, x3, FU_fx x4 h hs h0, by omega, ?_, fun k hk hk2 hk3 => ?_⟩
  · rw [e22 _ ⟨by omega, by omega⟩]
    exact x6
  · have hk' : As w U k := by unfold As at hk ⊢; rw [e19] at hk; exact hk
    rw [e22 k hk']
    exact x7 k hk' hk2 hk3
theorem st_fin (hd : HD R A T w p0 v S U o) (x : CX R w (S 56 (S 55 0 - 1)) A T v U A' T' v' U' c d) (cr : CR h v') (G : GI R A' T' w (-1) p0 v' S' U') (go : tGo w (tStep w S U) (S', U')) (s52 : S' 52 0 = -1) (e55 : S' 55 0 = S 55 0) (e56 : ∀ i, i < S 55 0 → S' 56 i = S 56 i) (e48 : S' 48 0 = S 48 0)
    (ar : AR v' A' U' (S 56 (S 55 0 - 1) + 2).toNat (S 56 (S 55 0 - 1)) o) (le : S 47 0 ≤ S' 47 0) (hc : c ≤ 300 * (S' 47 0 - S 47 0) - 20) (hd' : d ≤ 2000 * (S' 47 0 - S 47 0) - 300)
    (q1 : ∀ h' v' A' T' S' U', CR h' v' → SX R w 20 300 A T v S U A' T' v' S' U' → HD R A' T' w p0 v' S' U' o → tGo w (S, U) (S', U') → S 49 0 < S' 49 0 → S' 55 0 = S 55 0 → (∀ i, i < S 55 0 → S' 56 i = S 56 i) → NWs w U U' (S 56 (S 55 0 - 1)) → Q (Sum.inl (some (vR (some (A' 2 (w * 120 + U 19 w)))))) h') : Q (Sum.inl (some (vR (some (A' 2 (w * 120 + U 19 w)))))) h := by
  obtain ⟨g, ⟨hP, pr, qv, w0⟩, ⟨d1, s520⟩, _, ch⟩ := hd
  have mo : tMore S = true := more_of s520 (Or.inl (by omega))
  have g2 : tGo w (S, U) (S', U') := tGo_trans (tGo_one mo) go
  have P' : PI w S' U' := tGo_PI g2 hP
  obtain ⟨x1, x2, x3, x4, x5⟩ := x
  refine q1 h v' A' T' S' U' cr ⟨x1.le hc hd', x2, x3, x4, le, e48⟩ ⟨G, ⟨P', tGo_PR g2 w0 hP qv pr, tGo_QV g2 w0 hP qv, w0⟩, ⟨by omega, s52⟩, ?_, CH_fu w0.1 x4 hP pr d1 e55 e56 ch⟩ g2 (tGo_lt (X := (S, U)) go hP mo s52) e55 e56 x5
  rw [e55, e56 _ (by omega)]
  exact ar
theorem Xq_r (f : Fw (Xq (R 0) (R 2)) v v') : Fw (Xr (R 0) (R 2)) v v' := f.mono (fun a k z => by
  rcases z with z | z
  · exact Or.inl ⟨z.1, by omega⟩
  · exact Or.inr z)
theorem AR_q {d : Nat} (f : Fw (Xq (R 0) (R 2)) v v') (g : GI R A T w s p0 v S U) (x : AR v A U' d b o) : AR v' A U' d b o := AR_fw f (fun a k z => by
  have k0 := g.1.w0.1
  have k2 := g.1.w0.2.1
  rcases z with z | z
  · rw [z.1, k0]
    exact ⟨by decide, fun y => absurd y (by decide), fun _ => by decide⟩
  · rw [z.1, k2]
    exact ⟨by decide, fun y => absurd y (by decide), fun _ => by decide⟩) _ _ _ x
theorem st_plain0 (hd : HD R Ah Th w p0 vh S Uh o) (cr : CR h v) (md : MD R A T w s p0 v S U o) (cx : CX R w (S 56 (S 55 0 - 1)) Ah Th vh Uh A T v U 20 340) (hs : s = w * 120 + Uh 19 w) (e19 : U 19 w = Uh 19 w + 1) (u20 : U 20 s = 0) (u33 : U 33 s = 0) (hk : k = 0 ∨ k = 8) (ea : A 2 s = a)
    (ka : hK v.1 a = 30) (k5 : hI v.1 a 5 = iI k) (k6 : hR v.1 a 6 = none) (st : tStep w S Uh = (tTake (tAdv S) 59, up U 20 s k))
    (q1 : ∀ h' v' A' T' S' U', CR h' v' → SX R w 20 300 Ah Th vh S Uh A' T' v' S' U' → HD R A' T' w p0 v' S' U' o → tGo w (S, Uh) (S', U') → S 49 0 < S' 49 0 → S' 55 0 = S 55 0 → (∀ i, i < S 55 0 → S' 56 i = S 56 i) → NWs w Uh U' (S 56 (S 55 0 - 1)) → Q (Sum.inl (some (vR (some (A' 2 (w * 120 + Uh 19 w)))))) h')
    (q2 : ∀ h' v' p, CR h' v' → WX R Th vh v' S (20 - 2 * S 55 0) p → doom w (S, Uh) p → Q (Sum.inr (R 2)) h') :
    Rn r 175 133 [some (vR (some (R 0))), some (vR o), l2, some (vR (some a)), l4, l5, l6, l7, l8, l9, l10, l11, l12] [] h Q := by
  have hd' := hd
  obtain ⟨gh, ⟨hPh, prh, qvh, w0⟩, ⟨d1, s52⟩, arh⟩ := hd
  obtain ⟨g, ⟨hP, pr, qv, _⟩, _, ar, hsA, e22, _⟩ := md
  have kr := cr.kk g.1.w0.1 (by decide)
  have kah := cr.kk ka (by decide)
  have d8 := hPh.1.2.2.2.2.2.2.2
  have n19 := hPh.2.2.2.2.2.1
  have n19m := hP.2.2.2.2.2.1
  have k9 := g.k9
  have cp := ML_cp g qv
  have dm : ∀ p, doom w (tTake (tAdv S) 59, up U 20 s k) p → doom w (S, Uh) p := fun p y => doom_step s52 (Or.inl (by omega)) (by rw [st]; exact y)
  have le := g.1.le
  have si1 := SI_adv g.1.2.1
  have a47 := tAdv_47 g.1.2.1
  have b47 := tAdv_47 si1
  have e48 : tAdv S 48 0 = S 48 0 := by rw [tAdv_55.2.2.1]
  have e521 : tAdv S 52 0 = -1 := by rw [tAdv_52]; exact s52
  have le1 : tAdv S 47 0 ≤ S 48 0 := by have := si1.1.2.1; omega
  have i0 : ¬ hK h a ∈ [38] := by rw [kah]; decide
  rw [sX1_statement_133, sX1_statement_134_f i0 (by rw [kah]; rfl), sX1_statement_137, if_pos rfl, sX1_statement_158, sX1_statement_159 kr]
  refine t_next cr g.1 (fun z1 h1 v1 c1 f1 t1 n1 s0 s1 _ => ?_) (fun z1 h1 v1 c1 wg => ?_)
  · have ka1 := f1.kk ka (by decide)
    have kah1 := c1.kk ka1 (by decide)
    have kr1 := c1.kk (f1.kk g.1.w0.1 (by decide)) (by decide)
    have na0 : a ≠ R 0 := fun e => by have := g.1.w0.1; rw [← e, ka] at this; exact absurd this (by decide)
    have na2 : a ≠ R 2 := fun e => by have := g.1.w0.2.1; rw [← e, ka] at this; exact absurd this (by decide)
    have fa1 := fun j => f1.ff (k := j) (hK_lt ka (by decide)) (fun y => by rcases y with y | y; exact na0 y.1; exact na2 y.1)
    have m1 := cx.1.q f1 k9 n1 s0 s1
    rw [Kt_0, sX1_statement_162, sX1_statement_163 (by rw [kah1]; decide), sX1_statement_166, if_neg (by decide), sX1_statement_169, sX1_statement_170 (by rw [kah1]; decide), sX1_statement_173, sX1_statement_175, sX1_statement_176, sX1_statement_178, sX1_statement_179 kr1]
    have G1 := GI_r g (Xq_r f1) t1 a47.1 tAdv_55.1 tAdv_55.2.1
    have k91 := G1.k9
    refine c_plain0 c1 t1 ka1 (by rw [(fa1 5).1]; exact k5) hk (fun x51 z2 h2 v2 c2 f2 t2 n2 s02 s2 => ?_) (fun x51 z2 h2 v2 c2 wg => ?_) (fun x51 h2 v2 c2 wg => ?_)
    · have ka2 := f2.kk ka1 (by decide)
      have fa2 := fun j => f2.ff (k := j) (hK_lt ka1 (by decide)) (fun y => by rcases y with y | y; exact na0 y.1; exact na2 y.1)
      have G2 := GI_r G1 (Xq_r f2) t2 b47.1 tAdv_55.1 tAdv_55.2.1
      have m2 := m1.q f2 k91 n2 s02 s2
      have hfx : FX w s U (up U 20 s k) := FX_up (FU.refl.fx (Int.le_refl _)) (by decide) (by decide) (by decide) (Or.inl ⟨rfl, Or.inl rfl⟩)
      have e19' : up U 20 s k 19 w = U 19 w := by rw [up_n (by decide)]
      have tk : tTake (tAdv S) 59 = tAdv (tAdv S) := if_pos x51
      have tk1 := t1.2.2.1.2.2.1 (by omega)
      have G3 : GI R A T w (-1) p0 v2 (tAdv (tAdv S)) (up U 20 s k) := by
        refine GI_do G2 pr.1 qv w0 hP.2.2.2.2.1 (by omega) (fun i i0 i1 => ?_) (by omega) u20 u33 hk (by rw [ea]; exact ka2) (by rw [ea, (fa2 5).1, (fa1 5).1]; exact k5) (by rw [ea, (fa2 6).2.2, (fa1 6).2.2]; exact k6) t2 (Int.le_trans g.2.2.2.1 (by omega)) rfl rfl
        rw [tAdv_55.1, tAdv_55.1] at i1
        rw [tAdv_55.2.1, tAdv_55.2.1]
        have := hP.2.2.2.2.2.2.2.1 i i0 i1
        exact ⟨by omega, by omega⟩
      have cx2 : CX R w (S 56 (S 55 0 - 1)) Ah Th vh Uh A T v2 (up U 20 s k) _ _ := CX.fx (s := s) ⟨m2, cx.2⟩ hfx e19' (by omega) (by omega) w0.1 n19.1
      have ar2 := AR_fx hfx pr.1 qv _ _ _ (pr.1.1 s hsA).1 (AR_q f2 G1 (AR_q f1 g ar))
      rw [e22] at ar2
      rw [Kt_0, sX1_statement_182, sX1_statement_432, sX1_statement_433, ← ea, hs]
      refine st_fin hd' cx2 c2 G3 (by rw [st, tk]; exact tGo_refl _) (by rw [tAdv_52]; exact e521) (by rw [tAdv_55.1, tAdv_55.1]) (fun i _ => by rw [tAdv_55.2.1, tAdv_55.2.1]) (by rw [tAdv_55.2.2.1]; exact e48) ar2 (by omega) (by omega) (by omega) q1
    · have x := Wg_X (k := 1) G1 qv wg (by omega) (by omega) t1.le
      rw [Kt_x]
      refine q2 h2 v2 _ c2 (x.pre' m1 cx.2.2.1 (by omega) (by omega) e48) (dm _ ?_)
      have tk : tTake (tAdv S) 59 = tAdv (tAdv S) := if_pos x51
      rw [tk]
      exact doom_bad (by rw [tAdv_52]; exact e521) (SI_adv si1) (TK_adv si1.1) z2
    · have x := Wg_X (k := 1) G1 qv wg (by omega) (by omega) t1.le
      rw [Kt_x]
      exact q2 h2 v2 _ c2 (x.pre' m1 cx.2.2.1 (by omega) (by omega) e48) (dm _ (doom_take e521 si1 x51))
  · have x := Wg_X (k := 1) g qv wg (by omega) (by omega) le
    rw [Kt_x]
    exact q2 h1 v1 _ c1 (x.pre' cx.1 cx.2.2.1 (by omega) (by omega) rfl) (dm _ (doom_take e521 si1 (by omega)))
end FIN
