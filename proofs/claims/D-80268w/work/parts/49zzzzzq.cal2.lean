/-! COMPONENT, 58: call, from head to head *-/
section CA2
variable {r a : Nat} {h : am_H} {R : Nat → Nat} {A Ah : Nat → Int → Nat} {T Th : Nat → Nat} {w s b0 p0 c d : Int} {v vh : vT} {S S2 Uh U U2 : tSt} {o : Option Nat} {Q K : am_O → am_H → Prop} {l2 l4 l5 l6 l7 l8 l9 l10 l11 l12 : Option am_V}
theorem Xq_g (g : GI R A T w s p0 v S U) : XG v T (Xq (R 0) (R 2)) := fun a k z => by
  rcases z with z | z
  · exact Or.inl (by rw [z.1]; exact g.1.w0.1)
  · exact Or.inr (Or.inl (by rw [z.1]; exact g.1.w0.2.1))
/-- the semicolon behind a statement, and its end -/
theorem semi (hd : HD R Ah Th w p0 vh S Uh o) (cr : CR h v) (md : MD R A T w s p0 v S2 U2 o) (cx : CX R w (S 56 (S 55 0 - 1)) Ah Th vh Uh A T v U2 c d) (fs : FS v A T U2 w (fun _ => none) (fun _ => []) s) (u33 : U2 33 s = 0) (go : tGo w (tStep w S Uh) (tTake S2 59, U2)) (e55 : S2 55 0 = S 55 0) (e56 : ∀ i, i < S 55 0 → S2 56 i = S 56 i) (e48 : S2 48 0 = S 48 0) (hs : s = w * 120 + Uh 19 w) (ea : A 2 s = a)
    (le : S 47 0 ≤ S2 47 0) (hc : c ≤ 300 * (S2 47 0 - S 47 0) - 20) (hdd : d ≤ 2000 * (S2 47 0 - S 47 0) - 300)
    (q1 : ∀ h' v' A' T' S' U', CR h' v' → SX R w 20 300 Ah Th vh S Uh A' T' v' S' U' → HD R A' T' w p0 v' S' U' o → tGo w (S, Uh) (S', U') → S 49 0 < S' 49 0 → S' 55 0 = S 55 0 → (∀ i, i < S 55 0 → S' 56 i = S 56 i) → NWs w Uh U' (S 56 (S 55 0 - 1)) → Q (Sum.inl (some (vR (some (A' 2 (w * 120 + Uh 19 w)))))) h')
    (q2 : ∀ h' v' p, CR h' v' → WX R Th vh v' S (20 - 2 * S 55 0) p → doom w (S, Uh) p → Q (Sum.inr (R 2)) h')
    (k1 : ∀ h', Q (Sum.inl (some (vR (some a)))) h' → K (Sum.inl none) h') (k2 : ∀ h', Q (Sum.inr (R 2)) h' → K (Sum.inr (R 2)) h') : Cl r 128 [vR (some (R 0)), vI (iI 59)] h K := by
  have hd' := hd
  obtain ⟨gh, ⟨hPh, prh, qvh, w0⟩, ⟨d1, s52⟩, arh, chh⟩ := hd
  have d8 := hPh.1.2.2.2.2.2.2.2
  have dm : ∀ p, doom w (tTake S2 59, U2) p → doom w (S, Uh) p := fun p y => doom_step s52 (Or.inl (by omega)) (doom_go go y)
  have s522 := md.2.2.1.2
  have si2 := md.1.1.2.1
  have le2 := md.1.1.le
  refine t_want cr md.1.1 (by omega) (fun x51 z2 h2 v2 c2 f2 t2 n2 s02 s2 _ => ?_) (fun x51 z2 h2 v2 c2 wg => ?_) (fun x51 h2 v2 c2 wg => ?_)
  · have md2 := MD_q md f2 t2
    have b47 := tAdv_47 si2
    have cx2 : CX R w (S 56 (S 55 0 - 1)) Ah Th vh Uh A T v2 U2 _ _ := ⟨cx.1.q f2 md.1.k9 n2 s02 s2, cx.2⟩
    have fs2 := FS_fw f2 (Xq_g md.1) md.1.2.2.2.2.1.1 fs
    have G2 := MD_end md2 fs2 (fun c e hr => by rw [u33] at hr; omega)
    have tk : tTake S2 59 = tAdv S2 := if_pos x51
    have ar2 := md2.2.2.2.1
    rw [md2.2.2.2.2.2.1, tAdv_55.1, tAdv_55.2.1, e55, e56 _ (by omega)] at ar2
    have fin := st_fin hd' cx2 c2 G2 (by rw [← tk]; exact go) (by rw [tAdv_52]; exact s522) (by rw [tAdv_55.1]; exact e55) (fun i hi => by rw [tAdv_55.2.1]; exact e56 i hi) (by rw [tAdv_55.2.2.1]; exact e48) ar2 (by omega) (by omega) (by omega) q1
    rw [← hs, ea] at fin
    exact k1 _ fin
  · refine k2 _ (q2 h2 v2 _ c2 ((Wg_X (k := 1) md.1 md.2.1.2.2.1 wg (by omega) (by omega) le2).pre' cx.1 cx.2.2.1 (by omega) (by omega) e48) (dm _ ?_))
    have tk : tTake S2 59 = tAdv S2 := if_pos x51
    rw [tk]
    exact doom_bad (by rw [tAdv_52]; exact s522) (SI_adv si2) (TK_adv si2.1) z2
  · exact k2 _ (q2 h2 v2 _ c2 ((Wg_X (k := 1) md.1 md.2.1.2.2.1 wg (by omega) (by omega) le2).pre' cx.1 cx.2.2.1 (by omega) (by omega) e48) (dm _ (doom_take s522 si2 x51)))
/-- the name of a call (call, pc 0-32) -/
theorem cl_name (cr : CR h v) (md : MD R A T w s p0 v S U o) (cx : CX R w b0 Ah Th vh Uh A T v U c d) (hs : s = w * 120 + (U 19 w - 1)) (n1 : 1 ≤ U 19 w) (hsh : 120 * w + Uh 19 w ≤ s) (n0 : 0 ≤ Uh 19 w) (u20 : U 20 s = 0) (u33 : U 33 s = 0) (ea : A 2 s = a) (na : hN vh.1 ≤ a) (ka : hK v.1 a = 31)
    (q1 : tIsN S = true → tName S 51 0 ≠ -2 → ∀ h' v', CR h' v' → MD R A T w s p0 v' (tName S) (tNr s 1 (S 50 0) (S 49 0) U) o → CX R w b0 Ah Th vh Uh A T v' (tNr s 1 (S 50 0) (S 49 0) U) (c + 20 * (tName S 47 0 - S 47 0) + 7) (d + 200 * (tName S 47 0 - S 47 0) + 545) → TXn v' (hR v'.1 a 5) (S 50 0) → (∀ k, k = 6 ∨ k = 7 → hR v'.1 a k = hR v.1 a k) → hK v'.1 a = 31 → Rn r 222 32 [some (vR (some (R 0))), some (vR (some a)), some (vR o), none] [] h' Q)
    (q2 : ∀ h' v' p, CR h' v' → Wg (R 0) (R 2) 4 40 v v' p → (tIsN S = true → tName S 51 0 = -2 ∧ p = tName S 49 0) → (¬ tIsN S = true → p = S 49 0) → Q (Sum.inr (R 2)) h') : Cl r 222 [vR (some (R 0)), vR (some a), vR o] h Q := by
  obtain ⟨g, ⟨hP, pr, qv, w0⟩, ⟨d1, s52⟩, ar, hsA, e22, ch⟩ := md
  have g' := g
  obtain ⟨g1, g2, g3, g4, g5, g6, ⟨g7, g8, g9⟩, _, gc, gd, ge, gf, gg, gh, gj⟩ := g'
  have k0 := g1.w0.1
  have k2 := g1.w0.2.1
  have k9 := g.k9
  have kt := g1.w0.2.2
  have na0 : a ≠ R 0 := fun e => by rw [← e, ka] at k0; exact absurd k0 (by decide)
  have na2 : a ≠ R 2 := fun e => by rw [← e, ka] at k2; exact absurd k2 (by decide)
  have na1 : a ≠ R 1 := fun e => by rw [← e, ka] at kt; exact absurd kt (by decide)
  have si := g1.2.1
  have s49 := si.2.1
  have n19 := hP.2.2.2.2.2.1
  obtain ⟨t8, t9, t10, t11, t12, t13, t14⟩ := g6.2.2.2.2.2.2.1
  obtain ⟨m1, m2, m3, m4, m5, m6, m7, m8, m9, ma, mb⟩ := g6.2.2.2.2.2.2.2.1
  have n1011 : R 10 ≠ R 11 := g6.2.2.2.2.2.2.2.2.1
  have k10 := g6.2.1.2.1
  have k11 := g6.2.2.1.2.1
  have l10 : (vLs v (R 10)).length ≤ 120 := by rw [g6.2.1.2.2, List.length_map]; exact stL_len n19
  have l11 : (vLs v (R 11)).length ≤ 120 := by rw [g6.2.2.1.2.2.1, List.length_map]; exact stL_len n19
  rw [eX1_call, sX1_call_0, sX1_call_1, sX1_call_2 (cr.kk k0 (by decide))]
  refine t_name cr g1 (fun n z h1 v1 nm c1 f1 t1 nA n1' s0 s1 => ?_) (fun n z h1 v1 c1 wg => ?_) (fun n h1 v1 c1 wg => ?_)
  · obtain ⟨f53, f54, f47, f49, f50, f51⟩ := tName_g n
    obtain ⟨nn1, nn2, n55, n56, n48, n52, n47⟩ := nm_name si g1.2.2.1 n
    have xq : ∀ b k, Xq (R 0) (R 2) b k → (b = R 0 ∨ b = R 2) ∧ k ≠ 99 ∧ k ≠ 10 ∧ k ≠ 11 := fun b k y => by
      rcases y with y | y
      · exact ⟨Or.inl y.1, by omega⟩
      · exact ⟨Or.inr y.1, by omega⟩
    have k01 := f1.kk k0 (by decide)
    have ka1 := f1.kk ka (by decide)
    have fa1 := fun j => f1.ff (k := j) (hK_lt ka (by decide)) (fun y => by rcases (xq _ _ y).1 with z | z; exact na0 z; exact na2 z)
    rw [Kt_v, sX1_call_5 (c1.kk ka1 (by decide)), sX1_call_8, sX1_call_9 (by rw [hK_putR]; exact c1.kk k01 (by decide)), hR_putR, if_neg (fun y => na0 y.1.symm), c1.rr k01 rfl, (f1.ff (k := 10) (hK_lt k0 (by decide)) (fun y => (xq _ _ y).2.2.1 rfl)).2.2, g6.2.1.1, sX1_call_12, sX1_call_13 (by rw [hK_putR]; exact c1.kk (f1.kk k10 (by decide)) (by decide))]
    have c2 := CR_pR (k := 5) (z := some nm) c1 ka1 rfl
    have f2 : Fw (fun b k => b = a ∧ k = 5) v1 (vpR v1 a 5 (some nm)) := Fw.refl.pR (Or.inr ⟨rfl, rfl⟩)
    have r52 : hR (vpR v1 a 5 (some nm)).1 a 5 = some nm := by rw [vpR_1, hR_putR, if_pos ⟨rfl, rfl⟩]
    have m2' : hN (vpR v1 a 5 (some nm)).1 = hN v1.1 := rfl
    have s2' : hS (vpR v1 a 5 (some nm)).1 = hS v1.1 := rfl
    have cp2 : vCp (vpR v1 a 5 (some nm)) = vCp v1 := rfl
    generalize (vpR v1 a 5 (some nm)) = v2 at *
    generalize (putR h1 a 5 (some nm)) = h2 at *
    have k102 := f2.kk (f1.kk k10 (by decide)) (by decide)
    have k112 := f2.kk (f1.kk k11 (by decide)) (by decide)
    have ka2 := f2.kk ka1 (by decide)
    have k02 := f2.kk k01 (by decide)
    have ls10 : vLs v2 (R 10) = vLs v (R 10) := by rw [(f2.cc (hK_lt (f1.kk k10 (by decide)) (by decide)) (fun y => by omega)).1, (f1.cc (hK_lt k10 (by decide)) (fun y => (xq _ _ y).2.1 rfl)).1]
    have ls11 : vLs v2 (R 11) = vLs v (R 11) := by rw [(f2.cc (hK_lt (f1.kk k11 (by decide)) (by decide)) (fun y => by omega)).1, (f1.cc (hK_lt k11 (by decide)) (fun y => (xq _ _ y).2.1 rfl)).1]
    refine v_add c2 k102 (z := some a) ⟨by rw [ka2]; decide, by rw [ka2]; decide⟩ (by rw [ls10]; omega) (fun h3 n' s' c' c3 gw => ?_)
    obtain ⟨w1, w2, w3, w4, w5, w6, w7, w8⟩ := grw_b gw (c2.cp k102)
    rw [ls10] at w7
    have f3 : Fw (fun b k => b = R 10 ∧ k = 99) v2 (vsL (vbm v2 n' s') (R 10) (vLs v2 (R 10) ++ [some a]) c') := (Fw.refl.bm w1).sL (Or.inr ⟨rfl, rfl⟩)
    have ls3 : vLs (vsL (vbm v2 n' s') (R 10) (vLs v2 (R 10) ++ [some a]) c') (R 10) = vLs v (R 10) ++ [some a] := by rw [vLs_sL, if_pos rfl, ls10]
    have n3' : hN (vsL (vbm v2 n' s') (R 10) (vLs v2 (R 10) ++ [some a]) c').1 = n' := rfl
    have s3' : hS (vsL (vbm v2 n' s') (R 10) (vLs v2 (R 10) ++ [some a]) c').1 = s' := rfl
    generalize (vsL (vbm v2 n' s') (R 10) (vLs v2 (R 10) ++ [some a]) c') = v3 at *
    have k03 := f3.kk k02 (by decide)
    have k113 := f3.kk k112 (by decide)
    have ls113 : vLs v3 (R 11) = vLs v (R 11) := by rw [(f3.cc (hK_lt k112 (by decide)) (fun y => n1011 y.1.symm)).1, ls11]
    have f03 := fun j (hj : j ≠ 99) => f3.ff (k := j) (hK_lt k02 (by decide)) (fun y => hj y.2)
    have f02 := fun j => f2.ff (k := j) (hK_lt k01 (by decide)) (fun y => na0 y.1.symm)
    have r11 : hR v3.1 (R 0) 11 = some (R 11) := by rw [(f03 11 (by decide)).2.2, (f02 11).2.2, (f1.ff (k := 11) (hK_lt k0 (by decide)) (fun y => (xq _ _ y).2.2.2 rfl)).2.2]; exact g6.2.2.1.1
    have i14 : hI v3.1 (R 0) 14 = iI (S 49 0) := by rw [(f03 14 (by decide)).1, (f02 14).1, nA.2.2.2, f54]
    rw [Kt_v, sX1_call_16, sX1_call_17, sX1_call_18 (c3.kk k03 (by decide)), c3.rr k03 rfl, r11, sX1_call_21, sX1_call_22 (c3.kk k03 (by decide)), c3.ii k03 rfl, i14, sX1_call_25]
    refine vi_add (l := R 11) (K3 := Kt r 222 31 [some (vR (some (R 0))), some (vR (some a)), some (vR o), none] [] Q) c3 k113 (by rw [ls113]; omega) (by omega) (by omega) (fun b h4 y ⟨v4, c4, f4⟩ => ?_) (fun h4 v4 e4 c4 f4 l4 ig4 n4 s04 s4 => ?_)
    · rw [Kt_v, sX1_call_28 (c4.kk (f4.kk k113 (by decide)) (by decide))]
      exact y
    · rw [ls113] at l4 s4
      rw [Kt_v, sX1_call_31]
      have F14 : Fw (fun b k => (b = a ∧ k = 5) ∨ ((b = R 10 ∨ b = R 11) ∧ k = 99)) v1 v4 := ((f2.mono (fun b k y => Or.inl y)).trans (f3.mono (fun b k y => Or.inr ⟨Or.inl y.1, y.2⟩))).trans (f4.mono (fun b k y => Or.inr ⟨Or.inr y.1, y.2⟩))
      have F : Fw (XC R a) v v4 := (f1.mono (fun b k y => by
        rcases y with y | y
        · exact Or.inl (Or.inl ⟨y.1, by omega⟩)
        · exact Or.inl (Or.inr y))).trans (F14.mono (fun b k y => Or.inr y))
      have kq : ∀ b k, ((b = a ∧ k = 5) ∨ ((b = R 10 ∨ b = R 11) ∧ k = 99)) → (b = a ∧ k = 5) ∨ (hK v1.1 b = 4 ∧ k = 99 ∧ (b = R 10 ∨ b = R 11)) := fun b k y => by
        rcases y with y | y
        · exact Or.inl y
        · refine Or.inr ⟨?_, y.2, y.1⟩
          rcases y.1 with z | z
          · rw [z]; exact f1.kk k10 (by decide)
          · rw [z]; exact f1.kk k11 (by decide)
      have t4 : PT v4 (R 0) (R 1) (R 2) (tName S) := PT_fw F14 t1 (fun k hk y => by
        rcases kq _ _ y with z | z
        · exact na0 z.1.symm
        · omega) (fun k y => by
        have := t1.w0.2.2
        rcases kq _ _ y with z | z
        · exact na1 z.1.symm
        · rw [z.1] at this
          exact absurd this (by decide)) (fun b y => by
        rcases kq _ _ y with z | z
        · omega
        · rw [z.1]; decide)
      have F' := F
      rw [← ea] at F'
      have G4 := GI_cal (x := S 50 0) (p := S 49 0) (S' := tName S) g pr qv w0 hs n1 u20 u33 (by rw [ea]; exact ka) F' t4 (by omega) n55 n56 (by rw [(f4.cc (hK_lt (f3.kk k102 (by decide)) (by decide)) (fun y => n1011 y.1)).1, ls3, ea]) ⟨e4, l4, ig4⟩
      have hfx : FX w s U (tNr s 1 (S 50 0) (S 49 0) U) := tNr_fx
      have e19' : tNr s 1 (S 50 0) (S 49 0) U 19 w = U 19 w := by rw [tNr_o (by decide) (by decide) (by decide)]
      have e22' : tNr s 1 (S 50 0) (S 49 0) U 22 = U 22 := tNr_o (by decide) (by decide) (by decide)
      have s0' : 0 ≤ s := by have := hsA.1; omega
      have hP4 : PI w (tName S) (tNr s 1 (S 50 0) (S 49 0) U) := PI_up (PI_up (PI_up (PI_name hP) rfl) rfl) rfl
      have pr4 : PR w (tNr s 1 (S 50 0) (S 49 0) U) := PR_up (PR_up (PR_20 pr (by omega)) rfl) rfl
      have qv4 : QV (tNr s 1 (S 50 0) (S 49 0) U) := QV_x (QV_w (QV_x qv rfl rfl (by omega) (by omega)) rfl rfl si.2.2.1.1 si.2.2.1.2) rfl rfl (by omega) (by omega)
      have k94 : hK v1.1 (R 9) = 4 := f1.kk k9 (by decide)
      have cp4 : vCp v4 (R 9) = vCp v (R 9) := by
        rw [(F14.cc (hK_lt k94 (by decide)) (fun y => by
          rcases kq _ _ y with z | z
          · omega
          · rcases z.2.2 with q | q
            · exact m7 q
            · exact m8 q)).2.2.1, (f1.cc (hK_lt k9 (by decide)) (fun y => (xq _ _ y).2.1 rfl)).2.2.1]
      have rm : RM (R 9) v v4 (20 * (tName S 47 0 - S 47 0) + 7) (200 * (tName S 47 0 - S 47 0) + 545) := ⟨F.1, by omega, by omega, by rw [cp4]; omega, by rw [cp4]; exact Nat.le_refl _⟩
      have cx4 : CX R w b0 Ah Th vh Uh A T v4 (tNr s 1 (S 50 0) (S 49 0) U) (c + 20 * (tName S 47 0 - S 47 0) + 7) (d + 200 * (tName S 47 0 - S 47 0) + 545) := by
        obtain ⟨x1, x2, x3, x4, x5⟩ := cx.fx hfx e19' hsh s0' w0.1 n0
        refine ⟨(x1.fw F (fun b k y => ?_) rm).le (by omega) (by omega), x2, x3, x4, x5⟩
        rcases y with (y | y) | y | y
        · exact Or.inr (Or.inl ⟨y.1, by omega⟩)
        · exact Or.inr (Or.inr (Or.inl y))
        · exact Or.inl (by rw [y.1]; exact na)
        · by_cases q : b < hN vh.1
          · refine Or.inr (Or.inr (Or.inr (Or.inl ⟨y.2, ?_⟩)))
            rw [← x3 b q]
            rcases y.1 with z | z
            · rw [z]; exact Or.inr t10
            · rw [z]; exact Or.inr t11
          · exact Or.inl (by omega)
      have ar4 : AR v4 A (tNr s 1 (S 50 0) (S 49 0) U) (U 22 s + 2).toNat (U 22 s) o := AR_fx hfx pr.1 qv _ _ _ (pr.1.1 s hsA).1 (AR_fw F (fun b k y => by
        rcases y with (y | y) | y | y
        · rw [y.1, k0]; exact ⟨by decide, fun q => absurd q (by decide), fun _ => by decide⟩
        · rw [y.1, k2]; exact ⟨by decide, fun q => absurd q (by decide), fun _ => by decide⟩
        · rw [y.1, ka]; exact ⟨by decide, fun q => absurd q (by decide), fun _ => by decide⟩
        · rcases y.1 with z | z
          · rw [z, k10]; exact ⟨by decide, fun q => absurd q (by decide), fun _ => by decide⟩
          · rw [z, k11]; exact ⟨by decide, fun q => absurd q (by decide), fun _ => by decide⟩) _ _ _ ar)
      have ch4 : CH (tName S) (tNr s 1 (S 50 0) (S 49 0) U) := CH_fx w0.1 hfx hP pr (own_ne hP pr ch d1 e22) d1 (by rw [n55]) (fun i _ => by rw [n56]) ch
      have fa4 := fun j (hj : j ≠ 5 ∧ j ≠ 99) => F14.ff (k := j) (hK_lt ka1 (by decide)) (fun y => by
        rcases kq _ _ y with z | z
        · exact hj.1 z.2
        · exact hj.2 z.2.1)
      have r54 : hR v4.1 a 5 = some nm := by
        rw [(f4.ff (k := 5) (hK_lt (f3.kk ka2 (by decide)) (by decide)) (fun y => by omega)).2.2, (f3.ff (k := 5) (hK_lt ka2 (by decide)) (fun y => by omega)).2.2]
        exact r52
      refine q1 n z h4 v4 c4 ⟨G4, ⟨hP4, pr4, qv4, w0⟩, ⟨by rw [n55]; exact d1, by rw [n52]; exact s52⟩, by rw [e22']; exact ar4, As_of hsA (tNr_o (by decide) (by decide) (by decide)), by rw [e22', n55, n56]; exact e22, ch4⟩ cx4 ⟨nm, r54, ?_, ?_, ?_⟩ (fun k hk => ?_) (F14.kk ka1 (by decide))
      · exact F14.kk nA.1 (by decide)
      · rw [(F14.cc (hK_lt nA.1 (by decide)) (fun y => by
          rcases kq _ _ y with z | z
          · omega
          · have := nA.1
            omega)).2.2.2, nA.2.1, f53]
      · rw [(F14.cc (hK_lt nA.1 (by decide)) (fun y => by
          rcases kq _ _ y with z | z
          · omega
          · have := nA.1
            omega)).2.2.2]
        exact nA.2.2.1
      · rw [(fa4 k (by omega)).2.2, (fa1 k).2.2]
  · rw [Kt_x]
    exact q2 h1 v1 _ c1 wg (fun _ => ⟨z, rfl⟩) (fun y => absurd n y)
  · rw [Kt_x]
    exact q2 h1 v1 _ c1 wg (fun y => absurd y n) (fun _ => rfl)
end CA2
