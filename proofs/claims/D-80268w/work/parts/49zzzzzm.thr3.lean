/-! COMPONENT, 54: throw, from head to head *-/
section TH3
variable {r a : Nat} {h : am_H} {R : Nat → Nat} {A Ah : Nat → Int → Nat} {T Th : Nat → Nat} {w s p0 : Int} {v vh : vT} {S Uh U : tSt} {o : Option Nat} {Q : am_O → am_H → Prop} {l2 l4 l5 l6 l7 l8 l9 l10 l11 l12 : Option am_V}
theorem st_throw (hd : HD R Ah Th w p0 vh S Uh o) (cr : CR h v) (md : MD R A T w s p0 v S U o) (cx : CX R w (S 56 (S 55 0 - 1)) Ah Th vh Uh A T v U 20 340) (hs : s = w * 120 + Uh 19 w) (e19 : U 19 w = Uh 19 w + 1) (u20 : U 20 s = 0) (u33 : U 33 s = 0) (ea : A 2 s = a)
    (na : hN vh.1 ≤ a) (ka : hK v.1 a = 32) (k5 : hR v.1 a 5 = none) (k6 : hR v.1 a 6 = none) (st : ∃ V, tStep w S Uh = (tTs (tAdv S), V) ∧ (tIsN (tAdv S) = true → V = tNr s 2 (tAdv S 50 0) (tAdv S 49 0) U))
    (q1 : ∀ h' v' A' T' S' U', CR h' v' → SX R w 20 300 Ah Th vh S Uh A' T' v' S' U' → HD R A' T' w p0 v' S' U' o → tGo w (S, Uh) (S', U') → S 49 0 < S' 49 0 → S' 55 0 = S 55 0 → (∀ i, i < S 55 0 → S' 56 i = S 56 i) → NWs w Uh U' (S 56 (S 55 0 - 1)) → Q (Sum.inl (some (vR (some (A' 2 (w * 120 + Uh 19 w)))))) h')
    (q2 : ∀ h' v' p, CR h' v' → WX R Th vh v' S (20 - 2 * S 55 0) p → doom w (S, Uh) p → Q (Sum.inr (R 2)) h') :
    Rn (r + 1) 175 133 [some (vR (some (R 0))), some (vR o), l2, some (vR (some a)), l4, l5, l6, l7, l8, l9, l10, l11, l12] [] h Q := by
  have hd' := hd
  obtain ⟨gh, ⟨hPh, prh, qvh, w0⟩, ⟨d1, s52⟩, arh, chh⟩ := hd
  obtain ⟨V, st, sv⟩ := st
  have n19 := hPh.2.2.2.2.2.1
  have si0 := hPh.1
  have d8 := si0.2.2.2.2.2.2.2
  have a47 := tAdv_47 si0
  have e521 : tAdv S 52 0 = -1 := by rw [tAdv_52]; exact s52
  have e481 : tAdv S 48 0 = S 48 0 := by rw [tAdv_55.2.2.1]
  have si1 := SI_adv si0
  have dm : ∀ p, (∀ V, doom w (tTs (tAdv S), V) p) → doom w (S, Uh) p := fun p y => doom_step s52 (Or.inl (by omega)) (by rw [st]; exact y V)
  refine st_next d1 cr md cx ka (by decide) (by decide) (fun z h1 v1 c1 md1 cx1 f1 fa1 ka1 => ?_) (fun z h1 v1 c1 wx => q2 h1 v1 _ c1 wx (dm _ (fun V => ?_)))
  · have k01 := md1.1.1.w0.1
    have kr1 := c1.kk k01 (by decide)
    have le1 := md1.1.1.le
    have md1' := md1
    obtain ⟨g, ⟨hP, pr, qv, _⟩, _, ar, hsA, e22, ch⟩ := md1
    have n191 := hP.2.2.2.2.2.1
    have g4 := gh.2.2.2.1
    obtain ⟨L0, ga, gb⟩ := g.2.2.2.2.2.2.2.1
    have len : (insA [] L0).length ≤ 2700 := by
      rw [insA_len, List.length_nil, gb.length_eq]
      have := mPar_len (w := w) qv
      omega
    obtain ⟨_, t9, _, _, _, t13, t14⟩ := g.2.2.2.2.2.1.2.2.2.2.2.2.1
    have k9 := g.k9
    have xh : ∀ b k, XT R a (fun b => ((pO U (tAdv S 50 0) (U 22 s)).1 ≠ -1 ∧ (pO U (tAdv S 50 0) (U 22 s)).2 = true) ∧ (b = R 13 ∨ b = R 14)) b k → hN vh.1 ≤ b ∨ Xb (R 0) (R 2) Th b k := fun b k y => by
      rcases y with (y | y) | y | y | y
      · exact Or.inr (Or.inl ⟨y.1, by omega⟩)
      · exact Or.inr (Or.inr (Or.inl y))
      · by_cases q : b < hN vh.1
        · exact Or.inr (Or.inr (Or.inr (Or.inl ⟨y.2, by rw [← cx1.2.2.1 b q, y.1]; exact Or.inr t9⟩)))
        · exact Or.inl (by omega)
      · exact Or.inl (by rw [y.1]; exact na)
      · by_cases q : b < hN vh.1
        · refine Or.inr (Or.inr (Or.inr (Or.inl ⟨y.2, ?_⟩)))
          rw [← cx1.2.2.1 b q]
          rcases y.1.2 with z | z
          · rw [z]; exact Or.inr t13
          · rw [z]; exact Or.inr t14
        · exact Or.inl (by omega)
    rw [dsp_32 (c1.kk ka1 (by decide)), sX1_statement_221, sX1_statement_222, sX1_statement_224, sX1_statement_225 kr1]
    refine c_thrown c1 md1' ka1 (by rw [(fa1 5).2.2]; exact k5) (by rw [(fa1 6).2.2]; exact k6) (by omega) ga len (fun n x51 z2 h2 v2 c2 f2 t2 r5 r6 ml2 ls2 rm2 => ?_) (fun h2 v2 p c2 f2 rm2 i6 cp2 dm2 => ?_)
    · obtain ⟨n1, n2, n55, n56, n48, n52, n47⟩ := nm_name si1 g.1.2.2.1 n
      have b47 := tAdv_47 n1
      have tk1 := n2.2.2.1 (by omega)
      obtain ⟨f53, f54, f47, f49, f50, f51⟩ := tName_g n
      have c47 := tAdv_47 si1
      have hV := sv n
      have ts : tTs (tAdv S) = tAdv (tName (tAdv S)) := by
        unfold tTs tTake
        rw [if_pos n, if_pos x51]
      have f2' := f2
      have r5' := r5
      have r6' := r6
      have ls2' := ls2
      rw [← ea] at f2' r5' r6' ls2'
      have h55 : tAdv (tName (tAdv S)) 55 = tAdv S 55 := by rw [tAdv_55.1, n55]
      have h56 : tAdv (tName (tAdv S)) 56 = tAdv S 56 := by rw [tAdv_55.2.1, n56]
      have G2 := GI_thr (x := tAdv S 50 0) (p := tAdv S 49 0) (S' := tAdv (tName (tAdv S))) g pr qv w0 (by omega) (by omega) u20 u33 (by rw [ea]; exact ka1) rfl rfl f2' t2 (by omega) h55 h56 r5' r6' gb ml2 ls2'
      have hfx : FX w s U (tNr s 2 (tAdv S 50 0) (tAdv S 49 0) U) := tNr_fx
      have e19' : tNr s 2 (tAdv S 50 0) (tAdv S 49 0) U 19 w = U 19 w := by rw [tNr_o (by decide) (by decide) (by decide)]
      obtain ⟨x1, x2, x3, x4, x5⟩ := cx1.fx hfx e19' (by omega) (by omega) w0.1 n19.1
      have m3 := x1.fw f2 xh rm2
      have cx3 : CX R w (S 56 (S 55 0 - 1)) Ah Th vh Uh A T v2 (tNr s 2 (tAdv S 50 0) (tAdv S 49 0) U) _ _ := ⟨m3, x2, x3, x4, x5⟩
      have k21 := g.1.w0.2.1
      have ar3 := AR_fx hfx pr.1 qv _ _ _ (pr.1.1 s hsA).1 (AR_fw f2 (fun c k y => by
        have k13 := g.2.2.2.2.2.1.2.2.2.2.1.2.1
        have k14 := g.2.2.2.2.2.1.2.2.2.2.2.1.2.1
        rcases y with (y | y) | y | y | y
        · rw [y.1, k01]; exact ⟨by decide, fun q => absurd q (by decide), fun _ => by decide⟩
        · rw [y.1, k21]; exact ⟨by decide, fun q => absurd q (by decide), fun _ => by decide⟩
        · rw [y.1, k9]; exact ⟨by decide, fun q => absurd q (by decide), fun _ => by decide⟩
        · rw [y.1, ka1]; exact ⟨by decide, fun q => absurd q (by decide), fun _ => by decide⟩
        · rcases y.1.2 with z | z
          · rw [z, k13]; exact ⟨by decide, fun q => absurd q (by decide), fun _ => by decide⟩
          · rw [z, k14]; exact ⟨by decide, fun q => absurd q (by decide), fun _ => by decide⟩) _ _ _ ar)
      rw [e22, tAdv_55.1, tAdv_55.2.1] at ar3
      rw [Kt_0, sX1_statement_228, sX1_statement_432, sX1_statement_433]
      have fin := st_fin hd' cx3 c2 G2 (by rw [st, ts, hV]; exact tGo_refl _) (by rw [tAdv_52, n52]; exact e521) (by rw [h55, tAdv_55.1]) (fun i _ => by rw [h56, tAdv_55.2.1]) (by rw [tAdv_55.2.2.1, n48]; exact e481) ar3 (by omega) (by omega) (by omega) q1
      rw [← hs, ea] at fin
      exact fin
    · rw [Kt_x]
      have m3 := cx1.1.fw f2 xh rm2
      refine q2 h2 v2 p c2 ⟨m3.le (by omega) (by omega), i6, cp2⟩ (dm p dm2)
  · unfold tTs
    have s50 : tAdv S 50 0 = 0 := (TK_adv si0.1).2.2.2 (by omega)
    rw [if_neg (fun y => (tIsN_iff.mp y).1 s50)]
    exact doom_fail e521 si1
end TH3
