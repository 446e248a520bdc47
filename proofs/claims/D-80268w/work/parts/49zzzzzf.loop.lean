/-! COMPONENT, 47: loops *-/
section LPS
variable {r a e : Nat} {h : am_H} {R : Nat → Nat} {A Ah : Nat → Int → Nat} {T Th : Nat → Nat} {w s b0 p0 c d k what num i : Int} {v v' vh : vT} {S Sh Uh U U3 : tSt} {o : Option Nat} {Q : am_O → am_H → Prop} {f : Nat} {l2 l4 l5 l6 l7 l8 l9 l10 l11 l12 : Option am_V} {X : Nat → Nat → Prop}
theorem Xb_no (g : GI R A T w s p0 v S U) (h1 : 30 ≤ hK v.1 a ∧ hK v.1 a ≤ 38 ∨ hK v.1 a = 20) : ∀ j, ¬ Xb (R 0) (R 2) T a j := by
  intro j z
  have k0 := g.1.w0.1
  have k2 := g.1.w0.2.1
  have t0 := g.2.2.2.2.1.1 a (by omega) (by omega) (by omega)
  rcases z with z | z | z | z
  · rw [z.1, k0] at h1
    omega
  · rw [z.1, k2] at h1
    omega
  · omega
  · omega
/-- cells are new, nothing old changes -/
theorem MD_0 (md : MD R A T w s p0 v S U o) (f : Fw (fun _ _ => False) v v') : MD R A T w s p0 v' S U o := by
  obtain ⟨g, ⟨hP, pr, qv, w0⟩, q1, ar, q2⟩ := md
  refine ⟨GI_r g (f.mono (fun _ _ y => y.elim)) (PT_0 f g.1) (Int.le_refl _) rfl rfl, ⟨hP, pr, qv, w0⟩, q1, AR_fw f (fun _ _ y => y.elim) _ _ _ ar, q2⟩
theorem CX_0 (x : CX R w b0 Ah Th vh Uh A T v U c d) (f : Fw (fun _ _ => False) v v') (k9 : hK v.1 (R 9) = 4) {n m : Nat} (hn : hN v'.1 ≤ hN v.1 + n) (h0 : hS v.1 ≤ hS v'.1) (hm : hS v'.1 ≤ hS v.1 + m) : CX R w b0 Ah Th vh Uh A T v' U (c + n) (d + m) := by
  refine ⟨x.1.fw f (fun _ _ y => y.elim) ⟨f.1, by omega, h0, ?_, ?_⟩, x.2⟩
  · rw [(f.cc (hK_lt k9 (by decide)) (fun y => y)).2.2.1]
    omega
  · rw [(f.cc (hK_lt k9 (by decide)) (fun y => y)).2.2.1]
    exact Nat.le_refl _
/-- what stands around a new block, with an object e of its own -/
theorem AR_nu (pr : PR w U) (qv : QV U) (hs : As w U s) (w0 : 0 ≤ w) (h : tIsO S = true) (hf : f < 40) (f22 : f ≠ 22) (hx : FX w s U (oU w what s num f i S U)) (ar : AR v A U (U 22 s + 2).toNat (U 22 s) o)
    (ao : (what = 4 ∧ AO v e o (some (A 2 s)) none false none) ∨ ((what = 1 ∨ what = 8) ∧ AO v e o none none true none) ∨ (what = 5 ∧ AO v e o none none false (some (A 2 s))) ∨ (what = 7 ∧ AO v e o none none false none)) : AR v A (oU w what s num f i S U) (w * 1024 + U 40 w + 2).toNat (w * 1024 + U 40 w) (some e) := by
  obtain ⟨o1, o2, o3, o4, o5, o6⟩ := oU_v (w := w) (what := what) (own := s) (num := num) (i := i) (U := U) h hf
  have ab := (pr.1.1 s hs).1
  have ab1 := ab.1
  have ab2 := ab.2
  have nb := pr.2.1
  have s0 : s ≠ -1 := by have := hs.1; omega
  have e22 : oU w what s num f i S U 22 = U 22 := oU_o (by decide) (Ne.symm f22)
  have y : AR v A (oU w what s num f i S U) (w * 1024 + U 40 w + 1).toNat (U 22 s) o := AR_mono _ _ _ _ (by omega) (AR_fx hx pr.1 qv _ _ _ ab ar)
  rw [show (w * 1024 + U 40 w + 2).toNat = (w * 1024 + U 40 w + 1).toNat + 1 by omega, AR]
  rw [o2, o3, e22]
  refine ⟨by omega, ?_⟩
  rcases ao with ⟨z, ao⟩ | ⟨z, ao⟩ | ⟨z, ao⟩ | ⟨z, ao⟩
  · exact Or.inr (Or.inr (Or.inl ⟨z, s0, e, o, rfl, ao, y⟩))
  · exact Or.inr (Or.inr (Or.inr (Or.inl ⟨z, s0, e, o, rfl, ao, y⟩)))
  · exact Or.inr (Or.inr (Or.inr (Or.inr (Or.inl ⟨z, s0, e, o, rfl, ao, y⟩))))
  · exact Or.inr (Or.inr (Or.inr (Or.inr (Or.inr (Or.inr ⟨z, s0, e, o, rfl, ao, y⟩)))))
/-- the sort is told: what is in hand behind it -/
theorem MD_sort (md : MD R A T w s p0 v S U o) (cx : CX R w b0 Ah Th vh Uh A T v U c d) (hs : 120 * w + Uh 19 w ≤ s) (n0 : 0 ≤ Uh 19 w) (u20 : U 20 s = 0) (hk : k = 4 ∨ k = 5 ∨ k = 6 ∨ k = 10 ∨ k = 11) (no : ∀ c, Ab w U c → U 42 c ≠ s) (u33 : U 33 s = 0) (u30 : U 30 s = 0)
    (lb : k = 5 ∨ k = 6 → hK v.1 (A 2 s) = 34 ∧ hR v.1 (A 2 s) 7 = some (A 5 s) ∧ hK v.1 (A 5 s) = 4 ∧ T (A 5 s) = 2 ∧ vLs v (A 5 s) = [] ∧ ∀ t, As w U t → U 20 t = 5 ∨ U 20 t = 6 → A 5 t ≠ A 5 s) : MD R A T w s p0 v S (up U 20 s k) o ∧ CX R w b0 Ah Th vh Uh A T v (up U 20 s k) c d := by
  obtain ⟨g, ⟨hP, pr, qv, w0⟩, q1, ar, hsA, e22, ch⟩ := md
  have hfx : FX w s U (up U 20 s k) := FX_up (FU.refl.fx (Int.le_refl _)) (by decide) (by decide) (by decide) (Or.inl ⟨rfl, Or.inl rfl⟩)
  have e22' : up U 20 s k 22 = U 22 := up_n (by decide)
  have s0 : 0 ≤ s := by have := hsA.1; omega
  refine ⟨⟨GI_sort g pr qv w0 hsA u20 hk no u33 u30 lb, ⟨PI_up hP rfl, PR_20 pr (by omega), QV_x qv rfl rfl (by omega) (by omega), w0⟩, q1, ?_, As_of hsA (up_n (by decide)), by rw [e22']; exact e22, CH_fx w0.1 hfx hP pr (own_ne hP pr ch q1.1 e22) q1.1 rfl (fun _ _ => rfl) ch⟩, cx.fx hfx (by rw [up_n (by decide)]) hs s0 w0.1 n0⟩
  rw [e22']
  exact AR_fx hfx pr.1 qv _ _ _ (pr.1.1 s hsA).1 ar
theorem st_loop (blc : BLC r R w p0) (hd : HD R Ah Th w p0 vh S Uh o) (cr : CR h v) (md : MD R A T w s p0 v S U o) (cx : CX R w (S 56 (S 55 0 - 1)) Ah Th vh Uh A T v U 20 340) (hs : s = w * 120 + Uh 19 w) (e19 : U 19 w = Uh 19 w + 1) (u20 : U 20 s = 0) (u33 : U 33 s = 0) (u30 : U 30 s = 0) (no : ∀ c, Ab w U c → U 42 c ≠ s) (ea : A 2 s = a)
    (na : hN vh.1 ≤ a) (ka : hK v.1 a = 34) (hk : k = 5 ∨ k = 6) (k5 : hI v.1 a 5 = bI (k = 5)) (lb : hR v.1 a 7 = some (A 5 s) ∧ hK v.1 (A 5 s) = 4 ∧ T (A 5 s) = 2 ∧ vLs v (A 5 s) = [] ∧ ∀ t, As w U t → U 20 t = 5 ∨ U 20 t = 6 → A 5 t ≠ A 5 s)
    (hr : 9 - S 55 0 ≤ r) (st : tStep w S Uh = tOpn w 4 s 0 27 s (tAdv S) (up U 20 s k))
    (q1 : ∀ h' v' A' T' S' U', CR h' v' → SX R w 20 300 Ah Th vh S Uh A' T' v' S' U' → HD R A' T' w p0 v' S' U' o → tGo w (S, Uh) (S', U') → S 49 0 < S' 49 0 → S' 55 0 = S 55 0 → (∀ i, i < S 55 0 → S' 56 i = S 56 i) → NWs w Uh U' (S 56 (S 55 0 - 1)) → Q (Sum.inl (some (vR (some (A' 2 (w * 120 + Uh 19 w)))))) h')
    (q2 : ∀ h' v' p, CR h' v' → WX R Th vh v' S (20 - 2 * S 55 0) p → doom w (S, Uh) p → Q (Sum.inr (R 2)) h') :
    Rn (r + 1) 175 133 [some (vR (some (R 0))), some (vR o), l2, some (vR (some a)), l4, l5, l6, l7, l8, l9, l10, l11, l12] [] h Q := by
  have hd' := hd
  obtain ⟨gh, ⟨hPh, prh, qvh, w0⟩, ⟨d1, s52⟩, arh⟩ := hd
  have n19 := hPh.2.2.2.2.2.1
  have si0 := hPh.1
  have a47 := tAdv_47 si0
  have e521 : tAdv S 52 0 = -1 := by rw [tAdv_52]; exact s52
  have e551 : tAdv S 55 0 = S 55 0 := by rw [tAdv_55.1]
  have e481 : tAdv S 48 0 = S 48 0 := by rw [tAdv_55.2.2.1]
  have dm : ∀ p, doom w (tOpn w 4 s 0 27 s (tAdv S) (up U 20 s k)) p → doom w (S, Uh) p := fun p y => doom_step s52 (Or.inl (by omega)) (by rw [st]; exact y)
  obtain ⟨md, cx⟩ := MD_sort md cx (by omega) n19.1 u20 (k := k) (by omega) no u33 u30 (fun _ => by rw [ea]; exact ⟨ka, lb⟩)
  generalize hU : up U 20 s k = U' at *
  have u20' : U' 20 s = k := by rw [← hU, up_s]
  have u33' : U' 33 s = 0 := by rw [← hU, up_n (by decide)]; exact u33
  refine st_next d1 cr md cx ka (by decide) (by decide) (fun z h1 v1 c1 md1 cx1 f1 fa1 ka1 => ?_) (fun z h1 v1 c1 wx => q2 h1 v1 _ c1 wx (dm _ (doom_opn e521 (SI_adv si0) (fun p => by have := (tIsO_iff.mp p).1; omega) (fun _ => rfl))))
  have k01 := md1.1.1.w0.1
  have kr1 := c1.kk k01 (by decide)
  have nn := c1.hn
  rw [dsp_34 (c1.kk ka1 (by decide)), sX1_statement_294, sX1_statement_297, sX1_statement_298, sX1_statement_299 (by rw [nw_h]; decide) (by rw [nw_h]; decide), c_iAround nw_h, Kt_0, sX1_statement_302, sX1_statement_304, sX1_statement_306, sX1_statement_308 (by rw [hK_putR]; exact nw_h), sX1_statement_311, sX1_statement_313, sX1_statement_314, sX1_statement_316 (by rw [hK_putR, hK_putR, hK_newC, if_neg (by rw [nn]; have := hK_lt k01 (by decide); omega)]; exact kr1), nn]
  have c2 := CR_pR (k := 1) (z := some a) (CR_pR (k := 0) (z := o) (CR_nw (m := 20) (n := 5) c1 rfl) nw_k rfl) (by exact nw_k) rfl
  have f2 : Fw (fun _ _ => False) v1 (vpR (vpR (vnw v1 20 5) (hN v1.1) 0 o) (hN v1.1) 1 (some a)) := (Fw.refl.nw.pR (Or.inl (Nat.le_refl _))).pR (Or.inl (Nat.le_refl _))
  have ao : AO (vpR (vpR (vnw v1 20 5) (hN v1.1) 0 o) (hN v1.1) 1 (some a)) (hN v1.1) o (some a) none false none := by
    refine ⟨nw_k, ?_, ?_, ?_, ?_, ?_⟩
    · rw [vpR_1, hR_putR, if_neg (fun y => absurd y.2 (by decide)), vpR_1, hR_putR, if_pos ⟨rfl, rfl⟩]
    · rw [vpR_1, hR_putR, if_pos ⟨rfl, rfl⟩]
    · rw [vpR_1, hR_putR, if_neg (fun y => absurd y.2 (by decide)), vpR_1, hR_putR, if_neg (fun y => absurd y.2 (by decide)), vnw_1, hR_newC, if_pos rfl]
    · rw [vpR_1, hI_putR, vpR_1, hI_putR, vnw_1, hI_newC, if_pos rfl]
      rfl
    · rw [vpR_1, hR_putR, if_neg (fun y => absurd y.2 (by decide)), vpR_1, hR_putR, if_neg (fun y => absurd y.2 (by decide)), vnw_1, hR_newC, if_pos rfl]
  have n2 : hN (vpR (vpR (vnw v1 20 5) (hN v1.1) 0 o) (hN v1.1) 1 (some a)).1 = hN v1.1 + 1 := rfl
  have s2 : hS (vpR (vpR (vnw v1 20 5) (hN v1.1) 0 o) (hN v1.1) 1 (some a)).1 = hS v1.1 + 5 := rfl
  generalize (vpR (vpR (vnw v1 20 5) (hN v1.1) 0 o) (hN v1.1) 1 (some a)) = v2 at *
  generalize (putR (putR (newC h1 20 5) (hN v1.1) 0 o) (hN v1.1) 1 (some a)) = h2 at *
  have md2 := MD_0 md1 f2
  have cx2 := CX_0 (n := 1) (m := 5) cx1 f2 md1.1.k9 (by omega) (by omega) (by omega)
  obtain ⟨g, ⟨hP, pr, qv, _⟩, _, ar, hsA, e22, ch⟩ := md2
  have ka2 := f2.kk ka1 (by decide)
  rw [← ea] at ao
  refine own_block (what := 4) (num := 0) (f := 27) (i := s) (Sh := S) blc c2 g hP pr qv w0 hsA e22 ⟨by decide, fun _ => by omega⟩ ch (by omega) e521 (by omega) cx2 (by omega) n19.1 (by omega) (fun p => ?_) (fun p hx => AR_nu pr qv hsA w0.1 p (by decide) (by decide) hx ar (Or.inl ⟨rfl, ao⟩))
    (fun p h' v' A' T' S' U3 c' G3 ⟨P3, R3, Q3⟩ cx3 ae ts mf fu go n51 x52 x55 x56 e48 lt fb ⟨e41, e42⟩ art => ?_) (by omega) (by omega) e551 e481 (fun h' v' p c' wx y => ?_)
  · have y := And.intro (PI_step (w := w) hPh) (And.intro (PR_step hPh w0.1 qvh prh) (QV_step hPh w0 qvh))
    rw [st, tOpn_e p] at y
    exact y
  · obtain ⟨o1, o2, o3, o4, o5, o6⟩ := oU_v (w := w) (what := 4) (own := s) (num := 0) (f := 27) (i := s) (U := U') p (by decide)
    have hsB : As w (oU w 4 s 0 27 s (tAdv S) U') s := As_of hsA (oU_o (by decide) (by decide))
    have hs3 : As w U3 s := fu.aS hsB
    have a2 : A' 2 s = a := by rw [(ae.1 s hsA).1]; exact ea
    have ka' := mf.kk ka2 (by decide)
    have nx := Xb_no (a := a) g (by rw [ka2]; decide)
    have i5 : hI v'.1 a 5 = bI (k = 5) := by rw [(mf.ff (hK_lt ka2 (by decide)) (nx 5)).1, (f2.ff (hK_lt ka1 (by decide)) (fun y => y)).1, (fa1 5).1]; exact k5
    have u27 : U3 27 s = w * 1024 + U' 40 w := by rw [fu.fs hsB (by decide) (by decide) (by decide)]; exact o6
    have u203 : U3 20 s = k := by rw [fu.fs hsB (by decide) (by decide) (by decide), oU_o (by decide) (by decide)]; exact u20'
    have u333 : U3 33 s = 0 := by rw [fu.fs hsB (by decide) (by decide) (by decide), oU_o (by decide) (by decide)]; exact u33'
    rw [Kt_v, sX1_statement_319 (c'.kk ka' (by decide)), sX1_statement_322, sX1_statement_432, sX1_statement_433]
    have c2 := CR_pR (k := 6) (z := some (A' 3 (w * 1024 + U' 40 w))) c' ka' rfl
    have G4 := GI_endR (k := 6) (z := some (A' 3 (w * 1024 + U' 40 w))) G3 hs3 R3 Q3 w0 (by decide) (fun z => absurd z (by decide)) (by decide) u333 (by
      unfold FS
      rw [u203, u27, a2]
      refine ⟨fun z => by omega, fun z => by omega, fun z => by omega, fun z => by omega, fun z => by omega, fun _ => ⟨ka', ?_, ?_⟩, fun z => by omega, fun z => by omega, fun z => by omega, fun z => by omega, fun _ => by have := pr.2.1; omega⟩
      · rw [vpR_1, hI_putR]
        exact i5
      · rw [vpR_1, hR_putR, if_pos ⟨rfl, rfl⟩])
    rw [a2] at G4
    have cx4 := cx3.pR (e := a) (k := 6) (z := some (A' 3 (w * 1024 + U' 40 w))) na
    have ab0 : Ab w U' (S 56 (S 55 0 - 1)) := by
      rw [e551, tAdv_55.2.1] at e22
      rw [← e22]
      exact (pr.1.1 s hsA).1
    have ar4 := AR_pR (e := a) (k := 6) (z := some (A' 3 (w * 1024 + U' 40 w))) (by rw [ka']; decide) (by decide) (art _ _ _ ab0 (by rw [e22, e551, tAdv_55.2.1] at ar; exact ar))
    have sh : tShut w (w * 1024 + U' 40 w) S' U3 = (S', U3) := by
      unfold tShut
      rw [e41, if_neg (by decide), if_neg (by decide), if_neg (by decide), if_neg (by decide), if_neg (by decide)]
    rw [sh] at go
    have fin := st_fin hd' cx4 c2 G4 (by rw [st]; exact go) x52 (by omega) (fun i hi => by rw [x56 i (by omega), tAdv_55.2.1]) (by omega) ar4 (by omega) (by omega) (by omega) q1
    rw [← hs, a2] at fin
    exact fin
  · rw [Kt_x]
    exact q2 h' v' p c' wx (dm p y)
end LPS
