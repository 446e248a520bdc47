/-! COMPONENT, 59: call, with or without a lambda *-/
section CA3
variable {r a e : Nat} {h : am_H} {R : Nat → Nat} {A Ah : Nat → Int → Nat} {T Th : Nat → Nat} {w s p0 : Int} {v v1 vh : vT} {S Uh U : tSt} {o : Option Nat} {Q : am_O → am_H → Prop} {l2 l4 l5 l6 l7 l8 l9 l10 l11 l12 : Option am_V}
/-- a lambda around -/
theorem AO_lam : AO (vpI (vpR (vnw v1 20 5) (hN v1.1) 0 o) (hN v1.1) 3 1) (hN v1.1) o none none true none := by
  refine ⟨nw_k, ?_, ?_, ?_, ?_, ?_⟩
  · rw [vpI_1, hR_putI, vpR_1, hR_putR, if_pos ⟨rfl, rfl⟩]
  · rw [vpI_1, hR_putI, vpR_1, hR_putR, if_neg (fun y => absurd y.2 (by decide)), vnw_1, hR_newC, if_pos rfl]
  · rw [vpI_1, hR_putI, vpR_1, hR_putR, if_neg (fun y => absurd y.2 (by decide)), vnw_1, hR_newC, if_pos rfl]
  · rw [vpI_1, hI_putI, if_pos ⟨rfl, rfl⟩]
    rfl
  · rw [vpI_1, hR_putI, vpR_1, hR_putR, if_neg (fun y => absurd y.2 (by decide)), vnw_1, hR_newC, if_pos rfl]
theorem TXn_x {o1 : Option Nat} {x : Int} {v' : vT} (g : GI R A T w s p0 v S U) (f : Fw (Xb (R 0) (R 2) T) v v') (t : TXn v o1 x) : TXn v' o1 x :=
  TXn_fw f (Xb_k g.1.w0.1 g.1.w0.2.1) (fun a e => g.2.2.2.2.1.1 a (by rw [e]; decide) (by rw [e]; decide) (by rw [e]; decide)) t
theorem TXn_0 {o1 : Option Nat} {x : Int} {v' : vT} {X : Nat → Nat → Prop} (f : Fw X v v') (hx : ∀ a, X a 99 → hK v.1 a ≠ 10) (t : TXn v o1 x) : TXn v' o1 x := by
  obtain ⟨a, a1, a2, a3, a4⟩ := t
  have tx : vTx v' a = vTx v a := (f.cc (hK_lt a2 (by decide)) (fun z => hx a z a2)).2.2.2
  exact ⟨a, a1, f.kk a2 (by decide), by rw [tx]; exact a3, by rw [tx]; exact a4⟩
theorem st_call (blc : BLC r R w p0) (hd : HD R Ah Th w p0 vh S Uh o) (cr : CR h v) (md : MD R A T w s p0 v S U o) (cx : CX R w (S 56 (S 55 0 - 1)) Ah Th vh Uh A T v U 20 340) (hs : s = w * 120 + Uh 19 w) (e19 : U 19 w = Uh 19 w + 1) (u20 : U 20 s = 0) (u33 : U 33 s = 0) (u27 : U 27 s = -1) (ea : A 2 s = a)
    (na : hN vh.1 ≤ a) (ka : hK v.1 a = 31) (k6 : hR v.1 a 6 = none) (k7 : hR v.1 a 7 = none) (hr : 9 - S 55 0 ≤ r)
    (st1 : tIsN (tAdv S) = true → tStep w S Uh = if tName (tAdv S) 51 0 = 123 then tOpn w 1 s 0 27 s (tName (tAdv S)) (tNr s 1 (tAdv S 50 0) (tAdv S 49 0) U) else (tTake (tName (tAdv S)) 59, tNr s 1 (tAdv S 50 0) (tAdv S 49 0) U)) (st2 : ¬ tIsN (tAdv S) = true → ∃ V, tStep w S Uh = (tFail (tAdv S), V))
    (q1 : ∀ h' v' A' T' S' U', CR h' v' → SX R w 20 300 Ah Th vh S Uh A' T' v' S' U' → HD R A' T' w p0 v' S' U' o → tGo w (S, Uh) (S', U') → S 49 0 < S' 49 0 → S' 55 0 = S 55 0 → (∀ i, i < S 55 0 → S' 56 i = S 56 i) → NWs w Uh U' (S 56 (S 55 0 - 1)) → Q (Sum.inl (some (vR (some (A' 2 (w * 120 + Uh 19 w)))))) h')
    (q2 : ∀ h' v' p, CR h' v' → WX R Th vh v' S (20 - 2 * S 55 0) p → doom w (S, Uh) p → Q (Sum.inr (R 2)) h') :
    Rn (r + 1) 175 133 [some (vR (some (R 0))), some (vR o), l2, some (vR (some a)), l4, l5, l6, l7, l8, l9, l10, l11, l12] [] h Q := by
  have hd' := hd
  obtain ⟨gh, ⟨hPh, prh, qvh, w0⟩, ⟨d1, s52⟩, arh, chh⟩ := hd
  have n19 := hPh.2.2.2.2.2.1
  have si0 := hPh.1
  have d8 := si0.2.2.2.2.2.2.2
  have a47 := tAdv_47 si0
  have e521 : tAdv S 52 0 = -1 := by rw [tAdv_52]; exact s52
  have e551 : tAdv S 55 0 = S 55 0 := by rw [tAdv_55.1]
  have e481 : tAdv S 48 0 = S 48 0 := by rw [tAdv_55.2.2.1]
  have si1 := SI_adv si0
  have mo := more_of (S := S) s52 (Or.inl (by omega))
  have nofail : ∀ p, ¬ tIsN (tAdv S) = true → p = tAdv S 49 0 → doom w (S, Uh) p := fun p n e => by
    obtain ⟨V, y⟩ := st2 n
    refine doom_step s52 (Or.inl (by omega)) ?_
    rw [y, e]
    exact doom_fail e521 si1
  refine st_next d1 cr md cx ka (by decide) (by decide) (fun z h1 v1 c1 md1 cx1 f1 fa1 ka1 => ?_) (fun z h1 v1 c1 wx => q2 h1 v1 _ c1 wx (nofail _ (fun y => ?_) rfl))
  · have k01 := md1.1.1.w0.1
    have kr1 := c1.kk k01 (by decide)
    have le1 := md1.1.1.le
    have n191 := md1.2.1.1.2.2.2.2.2.1
    rw [dsp_31 (c1.kk ka1 (by decide)), sX1_statement_198, sX1_statement_199, sX1_statement_201, sX1_statement_202 kr1]
    refine cl_name c1 md1 cx1 (by omega) (by omega) (by omega) n19.1 u20 u33 ea na ka1 (fun n z2 h2 v2 c2 md2 cx2 tx2 f672 ka2 => ?_) (fun h2 v2 p c2 wg z1 z2 => ?_)
    · obtain ⟨nn1, nn2, n55, n56, n48, n52, n47⟩ := nm_name si1 md1.1.1.2.2.1 n
      obtain ⟨f53, f54, f47, f49, f50, f51⟩ := tName_g n
      have tk1 : tAdv S 49 0 < tAdv S 47 0 := md1.1.1.2.2.1.2.2.1 (fun q => by
        have := (tIsN_iff.mp n).1
        exact this (md1.1.1.2.2.1.2.2.2 (by omega)))
      obtain ⟨v20, v25, v26⟩ := tNr_v (s := s) (k := 1) (x := tAdv S 50 0) (p := tAdv S 49 0) (U := U)
      have e27 : tNr s 1 (tAdv S 50 0) (tAdv S 49 0) U 27 s = -1 := by rw [tNr_o (by decide) (by decide) (by decide)]; exact u27
      have e33 : tNr s 1 (tAdv S 50 0) (tAdv S 49 0) U 33 s = 0 := by rw [tNr_o (by decide) (by decide) (by decide)]; exact u33
      have st := st1 n
      generalize hU : tNr s 1 (tAdv S 50 0) (tAdv S 49 0) U = U2 at *
      have k02 := md2.1.1.w0.1
      have s512 := md2.1.1.2.1.2.2.2.1
      have e6 : hI h2 (R 0) 6 = iI (tName (tAdv S) 51 0) := by rw [c2.ii k02 rfl]; exact md2.1.1.1.2.2.2.1
      have i123 : iI (tName (tAdv S) 51 0) = iI 123 ↔ tName (tAdv S) 51 0 = 123 := iI_eq (by omega) (by omega) (by omega) (by omega)
      have r62 : hR v2.1 a 6 = none := by rw [f672 6 (Or.inl rfl), (fa1 6).2.2]; exact k6
      have r72 : hR v2.1 a 7 = none := by rw [f672 7 (Or.inr rfl), (fa1 7).2.2]; exact k7
      have t55 : tName (tAdv S) 55 0 = S 55 0 := by rw [n55]; exact e551
      have t56 : ∀ i, tName (tAdv S) 56 i = S 56 i := fun i => by rw [n56, tAdv_55.2.1]
      have t48 : tName (tAdv S) 48 0 = S 48 0 := by rw [n48]; exact e481
      have k1' : ∀ h', Q (Sum.inl (some (vR (some a)))) h' → (Kt (r + 1) 175 205 [some (vR (some (R 0))), some (vR o), l2, some (vR (some a)), l4, some (vR (some a)), l6, l7, l8, l9, l10, l11, l12] [] Q) (Sum.inl none) h' := fun h' y => by
        rw [Kt_0, sX1_statement_205, sX1_statement_432, sX1_statement_433]
        exact y
      rw [sX1_call_32, sX1_call_33 (c2.kk k02 (by decide)), e6, sX1_call_36, sX1_call_38, i_123]
      by_cases lam : tName (tAdv S) 51 0 = 123
      · rw [if_pos lam] at st
        have nn := c2.hn
        have fit1 : am_fit 4 (1 : Int32) = true := rfl
        rw [if_neg (fun y => y (i123.mpr lam)), sX1_call_41, sX1_call_44, sX1_call_45, sX1_call_46 (by rw [nw_h]; decide) (by rw [nw_h]; decide), c_iAround nw_h, Kt_0, sX1_call_49, sX1_call_50, sX1_call_51, sX1_call_52 (by rw [hK_putR]; exact nw_h) fit1, sX1_call_55, sX1_call_56, sX1_call_57, sX1_call_58 (by rw [hK_putI, hK_putR, hK_newC, if_neg (by rw [nn]; have := hK_lt k02 (by decide); omega)]; exact c2.kk k02 (by decide)), nn]
        have c3 := CR_pI (k := 3) (x := (1 : Int32)) (CR_pR (k := 0) (z := o) (CR_nw (m := 20) (n := 5) c2 rfl) nw_k rfl) (by exact nw_k) rfl
        have f3 : Fw (fun _ _ => False) v2 (vpI (vpR (vnw v2 20 5) (hN v2.1) 0 o) (hN v2.1) 3 1) := (Fw.refl.nw.pR (Or.inl (Nat.le_refl _))).pI (Or.inl (Nat.le_refl _))
        have ao := AO_lam (v1 := v2) (o := o)
        have n3 : hN (vpI (vpR (vnw v2 20 5) (hN v2.1) 0 o) (hN v2.1) 3 1).1 = hN v2.1 + 1 := rfl
        have s3 : hS (vpI (vpR (vnw v2 20 5) (hN v2.1) 0 o) (hN v2.1) 3 1).1 = hS v2.1 + 5 := rfl
        generalize (vpI (vpR (vnw v2 20 5) (hN v2.1) 0 o) (hN v2.1) 3 1) = v3 at *
        generalize (putI (putR (newC h2 20 5) (hN v2.1) 0 o) (hN v2.1) 3 1) = h3 at *
        have md3 := MD_0 md2 f3
        have cx3 := CX_0 (n := 1) (m := 5) cx2 f3 md2.1.k9 (by omega) (by omega) (by omega)
        have ka3 := f3.kk ka2 (by decide)
        have tx3 : TXn v3 (hR v3.1 a 5) (tAdv S 50 0) := by
          rw [(f3.ff (k := 5) (hK_lt ka2 (by decide)) (fun y => y)).2.2]
          exact TXn_0 f3 (fun _ y => y.elim) tx2
        have r63 : hR v3.1 a 6 = none := by rw [(f3.ff (k := 6) (hK_lt ka2 (by decide)) (fun y => y)).2.2]; exact r62
        have dm3 : ∀ p, doom w (tOpn w 1 s 0 27 s (tName (tAdv S)) U2) p → doom w (S, Uh) p := fun p y => doom_step s52 (Or.inl (by omega)) (by rw [st]; exact y)
        have hsA := md3.2.2.2.2.1
        have pr := md3.2.1.2.1
        have qv := md3.2.1.2.2.1
        refine own_md (what := 1) (num := 0) (f := 27) (i := s) (Sh := S) blc c3 md3 (by omega) ⟨by decide, fun z => absurd z (by decide)⟩ cx3 (by omega) n19.1 (by omega) (fun p => ?_) (fun p hx => AR_nu pr qv hsA w0.1 p (by decide) (by decide) hx md3.2.2.2.1 (Or.inr (Or.inl ⟨Or.inl rfl, ao⟩)))
          (fun p h4 v4 A4 T4 S4 U4 c4 md4 cx4 ae4 ts4 mf4 fu4 hsB go4 n51 x55 x56 e48 lt fb4 ⟨e41, e42⟩ ⟨w20, w33, w30, w25, w26, ab4⟩ => ?_) (by omega) (by omega) t55 t48 (fun h' v' p c' wx y => ?_)
        · have y := And.intro (PI_step (w := w) hPh) (And.intro (PR_step hPh w0.1 qvh prh) (QV_step hPh w0 qvh))
          rw [st] at y
          exact y
        · obtain ⟨o1, o2, o3, o4, o5, o6⟩ := oU_v (w := w) (what := 1) (own := s) (num := 0) (f := 27) (i := s) (U := U2) p (by decide)
          have a4 : A4 2 s = a := by rw [(ae4.1 s hsA).1]; exact ea
          have ka4 := mf4.kk ka3 (by decide)
          have nx := Xb_no (a := a) md3.1 (by rw [ka3]; decide)
          have fa4 := fun j => mf4.ff (k := j) (hK_lt ka3 (by decide)) (nx j)
          have w27 : U4 27 s = w * 1024 + U2 40 w := by rw [fu4.fs hsB (by decide) (by decide) (by decide)]; exact o6
          have nb : 0 ≤ U2 40 w := pr.2.1
          rw [Kt_v, sX1_call_61 (c4.kk ka4 (by decide)), sX1_call_64, sX1_call_65, sX1_call_67 (by rw [hK_putR]; exact c4.kk md4.1.1.w0.1 (by decide)), i_59]
          have c5 := CR_pR (k := 7) (z := some (A4 3 (w * 1024 + U2 40 w))) c4 ka4 rfl
          have md5 := MD_pR (k := 7) (z := some (A4 3 (w * 1024 + U2 40 w))) md4 (by decide) (fun _ => by rw [w20, v20]; decide) (by decide)
          rw [a4] at md5
          have cx5 := cx4.pR (e := a) (k := 7) (z := some (A4 3 (w * 1024 + U2 40 w))) na
          have sh : tShut w (w * 1024 + U2 40 w) S4 U4 = (tTake S4 59, U4) := by
            unfold tShut
            rw [e41, if_pos rfl]
          rw [sh] at go4
          refine semi hd' c5 md5 cx5 ?_ (by rw [w33]; exact e33) (by rw [st]; exact go4) (by omega) (fun i hi => by rw [x56 i (by omega)]; exact t56 i) (by omega) hs a4 (by omega) (by omega) (by omega) q1 q2 (fun h' y => by rw [Kt_0, sX1_call_70]; exact k1' h' y) (fun h' y => by rw [Kt_x, Kt_x]; exact y)
          unfold FS
          rw [w20, v20, w25, v25, w27, a4]
          refine ⟨fun z => by omega, fun z => by omega, fun _ => ⟨ka4, ?_, ?_, ?_⟩, fun z => by omega, fun z => by omega, fun z => by omega, fun z => by omega, fun z => by omega, fun z => by omega, fun z => by omega, fun z => by omega⟩
          · rw [vpR_1, hR_putR, if_neg (fun y => absurd y.2 (by decide)), (fa4 5).2.2]
            exact TXn_0 (X := fun c j => c = a ∧ j = 7) (Fw.refl.pR (Or.inr ⟨rfl, rfl⟩)) (fun _ y => by omega) (TXn_x md3.1 mf4 tx3)
          · rw [vpR_1, hR_putR, if_neg (fun y => absurd y.2 (by decide)), (fa4 6).2.2]
            exact r63
          · rw [vpR_1, hR_putR, if_pos ⟨rfl, rfl⟩, optA_s (by omega)]
        · rw [Kt_x, Kt_x]
          exact q2 h' v' p c' wx (dm3 p y)
      · rw [if_neg lam] at st
        rw [if_pos (fun y => lam (i123.mp y)), sX1_call_64, sX1_call_65, sX1_call_67 (c2.kk k02 (by decide)), i_59]
        refine semi hd' c2 md2 cx2 ?_ e33 (by rw [st]; exact tGo_refl _) t55 (fun i _ => t56 i) t48 hs ea (by omega) (by omega) (by omega) q1 q2 (fun h' y => by rw [Kt_0, sX1_call_70]; exact k1' h' y) (fun h' y => by rw [Kt_x, Kt_x]; exact y)
        unfold FS
        rw [v20, v25, e27, ea]
        exact ⟨fun z => by omega, fun z => by omega, fun _ => ⟨ka2, tx2, r62, r72⟩, fun z => by omega, fun z => by omega, fun z => by omega, fun z => by omega, fun z => by omega, fun z => by omega, fun z => by omega, fun z => by omega⟩
    · rw [Kt_x]
      refine q2 h2 v2 p c2 ((Wg_X (k := 1) md1.1 md1.2.1.2.2.1 wg (by omega) (by omega) le1).pre' cx1.1 cx1.2.2.1 (by omega) (by omega) e481) ?_
      by_cases n : tIsN (tAdv S) = true
      · obtain ⟨nn1, nn2, n55, n56, n48, n52, n47⟩ := nm_name si1 md1.1.1.2.2.1 n
        obtain ⟨y1, y2⟩ := z1 n
        refine doom_step s52 (Or.inl (by omega)) ?_
        rw [st1 n, if_neg (by omega), y2]
        exact doom_take (by rw [n52]; exact e521) nn1 (by omega)
      · exact nofail p n (z2 n)
  · exact (tIsN_iff.mp y).1 ((TK_adv si0.1).2.2.2 (by omega))
end CA3
