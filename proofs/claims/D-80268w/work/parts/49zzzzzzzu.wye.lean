/-! COMPONENT, 100: a method's end (way, pc 150-182) *-/
/-- what a method may change -/
def Xp (R : Nat → Nat) (T : Nat → Nat) (a k : Nat) : Prop := Xo R a k ∨ (k = 99 ∧ (T a = 2 ∨ T a = 3)) ∨ (k = 4 ∧ T a = 5)
section WYE
variable {R : Nat → Nat} {A : Nat → Int → Nat} {T : Nat → Nat} {w p0 x : Int} {h : am_H} {v : vT} {S V : tSt} {r am nm : Nat} {Q : am_O → am_H → Prop} {l3 : Option am_V}
theorem OP_0 (n3 : 4 ≤ V 3 w ∧ V 3 w ≤ 16) (n9 : 0 ≤ V 9 w ∧ V 9 w ≤ 12) (pr : PR w V) (qv : QV V) (w0 : 0 ≤ w ∧ w ≤ 1) (iso : tIsO S = true) {num : Int} (P : PI w (oS S (w * 1024 + V 40 w)) (oU w 0 (-1) num 18 x S V) ∧ PR w (oU w 0 (-1) num 18 x S V) ∧ QV (oU w 0 (-1) num 18 x S V)) : OP w (-1) (w * 1024 + V 40 w) S V (oU w 0 (-1) num 18 x S V) := by
  obtain ⟨o1, o2, o3, o4, o5, o6⟩ := oU_v (w := w) (what := 0) (own := -1) (num := num) (f := 18) (i := x) (U := V) iso (by decide)
  have ee : ∀ g, g < 40 → g ≠ 18 → oU w 0 (-1) num 18 x S V g = V g := fun g h1 h2 => oU_o (Or.inl h1) h2
  have hx : FX w (-1) V (oU w 0 (-1) num 18 x S V) := by
    refine FX_up ((FU_tOU FU.refl).fx ?_) (by omega) (by omega) (by omega) ?_
    · rw [tOU_o (by decide)]
      exact Int.le_refl _
    · unfold exm
      omega
  have e19 : oU w 0 (-1) num 18 x S V 19 w = V 19 w := by rw [ee 19 (by decide) (by omega)]
  refine ⟨hx, ⟨e19, o1, o3, o5⟩, ⟨ee 20 (by decide) (by omega), ee 33 (by decide) (by omega), ee 26 (by decide) (by omega), ee 25 (by decide) (by omega), ee 30 (by decide) (by omega), ee 22 (by decide) (by omega)⟩, ?_, P⟩
  unfold mPar
  rw [hx.fk (f := 3) (by decide) (by omega), hx.fk (f := 9) (by decide) (by omega), e19]
  rw [tCat_congr (f := mKind (oU w 0 (-1) num 18 x S V) w) (g := mKind V w) _ _ (fun k a b => mKind_fx hx w0 n3 (by omega)), tCat_congr (f := mPm (oU w 0 (-1) num 18 x S V) w) (g := mPm V w) _ _ (fun k a b => mPm_fx hx w0 n3 n9 qv (by omega))]
  congr 1
  congr 1
  exact tCat_congr _ _ (fun k a b => mPs_fx hx pr.1 qv w0 n3 ⟨by omega, by omega⟩ (by omega))
theorem wy_end (blc : BLC r R w p0) (hr : 9 ≤ r) (c : CR h v) (tj : TJ R A T w p0 v S V) (hP : PI w S V ∧ PR w V ∧ QV V ∧ (0 ≤ w ∧ w ≤ 1)) (s52 : S 52 0 = -1) (s51 : S 51 0 ≠ -2) (h9 : 1 ≤ V 9 w ∧ V 9 w ≤ 12) (r8 : hR v.1 (R 0) 8 = some am) (ea : A 1 (V 9 w - 1) = am) {num : Int}
    (P : tIsO S = true → PI w (oS S (w * 1024 + V 40 w)) (oU w 0 (-1) num 18 (w * 12 + (V 9 w - 1)) S V) ∧ PR w (oU w 0 (-1) num 18 (w * 12 + (V 9 w - 1)) S V) ∧ QV (oU w 0 (-1) num 18 (w * 12 + (V 9 w - 1)) S V))
    (q1 : ∀ h' v' A' T' S' U', tGo w (if S 51 0 = 59 then (tAdv S, V) else tOpn w 0 (-1) num 18 (w * 12 + (V 9 w - 1)) S V) (S', U') → CR h' v' → TJ R A' T' w p0 v' S' U' → (PI w S' U' ∧ PR w U' ∧ QV U') → S' 52 0 = -1 → Fw (fun a k => Xp R T a k ∨ (a = am ∧ k = 8)) v v' → RM (R 9) v v' (300 * (S' 47 0 - S 47 0)) (2000 * (S' 47 0 - S 47 0)) → (∀ a, a < hN v.1 → T' a = T a) → (∀ f j, f ≤ 8 → j < 1000000 → U' f j = V f j) → S' 51 0 ≠ -2 → S 47 0 ≤ S' 47 0 → S' 48 0 = S 48 0 → Q (Sum.inl none) h')
    (q2 : ∀ h' v' p, CR h' v' → Fw (Xp R T) v v' → RM (R 9) v v' (300 * (S 48 0 - S 47 0) + 1201) (2000 * (S 48 0 - S 47 0) + 16005) → hI v'.1 (R 2) 6 = iI p → vCp v' (R 9) ≤ 6000 → doom w (if S 51 0 = 59 then (tAdv S, V) else tOpn w 0 (-1) num 18 (w * 12 + (V 9 w - 1)) S V) p → Q (Sum.inr (R 2)) h') :
    Rn (r + 1) 84 150 [some (vR (some (R 0))), some (vR (some nm)), some (vR (some am)), l3] [] h Q := by
  obtain ⟨hP, pr, qv, w0⟩ := hP
  have tj' := tj
  obtain ⟨g, rk, kl, mt⟩ := tj'
  have g' := g
  obtain ⟨g1, g2, g3, g4, g5, g6, ⟨g7, g8⟩, ⟨L, g9, g9'⟩, ga, gb, gc, gd, ge, gf, gg⟩ := g'
  have k0 := g1.w0.1
  have k9 : hK v.1 (R 9) = 4 := g9.1.choose_spec.1.1
  have si := hP.1
  have tk := hP.2.1
  have le0 := g1.le
  have e6 : hI h (R 0) 6 = iI (S 51 0) := by rw [c.ii k0 rfl]; exact g1.1.2.2.2.1
  have s51r := si.2.2.2.1
  have i59 : iI (S 51 0) = iI 59 ↔ S 51 0 = 59 := iI_eq (by omega) (by omega) (by omega) (by omega)
  have cp := GT_cp g qv
  have kam : hK v.1 am = 18 := by rw [← ea]; exact (mt.2.2.2 (V 9 w - 1) (by omega) (by omega)).1
  rw [sX1_way_150, sX1_way_151 (c.kk k0 (by decide)), e6, sX1_way_154, sX1_way_156, i_59]
  by_cases e : S 51 0 = 59
  · rw [if_pos e] at q1 q2
    rw [if_neg (fun y => y (i59.mpr e)), sX1_way_159, sX1_way_160 (c.kk k0 (by decide))]
    have a47 := tAdv_47 si
    have e48 : tAdv S 48 0 = S 48 0 := by rw [tAdv_55.2.2.1]
    have nx : ∀ {a n k : Nat}, hK v.1 a = n → n ≠ 0 → n ≠ 2 → n ≠ 3 → ¬ Xq (R 0) (R 2) a k := fun {a n k} e h0 h2 h3 y => by
      rcases y with y | y
      · rw [y.1, k0] at e; omega
      · rw [y.1, g1.w0.2.1] at e; omega
    have xo : ∀ {v1 : vT}, Fw (Xq (R 0) (R 2)) v v1 → Fw (Xp R T) v v1 := fun f => f.mono (fun a k y => by
      rcases y with y | y
      · exact Or.inl (Or.inl ⟨y.1, by omega⟩)
      · exact Or.inl (Or.inr (Or.inl y)))
    refine t_next c g1 (fun z1 h1 v1 c1 f1 t1 b1 b2 b3 _ => ?_) (fun z1 h1 v1 c1 wg => ?_)
    · have cp1 : vCp v1 (R 9) = vCp v (R 9) := (f1.cc (hK_lt k9 (by decide)) (nx k9 (by decide) (by decide) (by decide))).2.2.1
      have si1 := SI_adv si
      have le1 : tAdv S 47 0 ≤ S 48 0 := by have := si1.1.2.1; omega
      rw [Kt_0, sX1_way_163, sX1_way_182]
      have xm : XM v T (hN v.1) (Xq (R 0) (R 2)) := fun a k y _ => by
        rcases y with y | y
        · exact Or.inl (Or.inl (by rw [y.1]; exact k0))
        · exact Or.inr (Or.inl (by rw [y.1]; exact g1.w0.2.1))
      have hP1 : PI w (tAdv S) V := PI_tks hP (Tks_adv si tk)
      obtain ⟨⟨m1, m2, m3⟩, ⟨m4, m5, m6⟩, mz, m7⟩ := mt
      have r3 := fun j => f1.ff (k := j) (hK_lt g2.2.2.1 (by decide)) (nx g2.2.2.1 (by decide) (by decide) (by decide))
      have n5 : ¬ Xq (R 0) (R 2) (R 5) 99 := nx g3.2.2.1 (by decide) (by decide) (by decide)
      have n7 : ¬ Xq (R 0) (R 2) (R 7) 99 := nx m5.1 (by decide) (by decide) (by decide)
      have tj1 : TJ R A T w p0 v1 (tAdv S) V := by
        refine ⟨GT_mv (U' := V) g pr.1 qv (fun _ _ => rfl) f1 xm (fun k hk y => ?_) (fun a _ _ y => by rcases y with y | y <;> omega) (fun a k _ y t5 => ?_) rfl rfl rfl rfl (fun _ _ _ => rfl) (Or.inl (fun _ _ => rfl)) t1 (by rw [tAdv_55.1]; exact g8) (KMp_fw f1 g3 n5) (by omega) (TG_fw f1 g5) (fun _ _ => rfl) ⟨L, ML_fw f1 g9 (nx k9 (by decide) (by decide) (by decide)) (fun a k y _ e => nx e (by decide) (by decide) (by decide) y), g9'⟩, RK_mv rk f1 (nx rk.1 (by decide) (by decide) (by decide)) (nx rk.2.2.1 (by decide) (by decide) (by decide)) (fun a k y e => nx e (by decide) (by decide) (by decide) y) rfl (fun _ _ _ => rfl) (fun _ _ _ => rfl), KL_fw f1 g3.2.2.1 n5 kl, ⟨⟨by rw [(r3 2).2.2]; exact m1, f1.kk m2 (by decide), by rw [(f1.cc (hK_lt m2 (by decide)) (nx m2 (by decide) (by decide) (by decide))).1]; exact m3⟩, ⟨by rw [(r3 3).2.2]; exact m4, ⟨f1.kk m5.1 (by decide), fun t ok => by rw [(f1.cc (hK_lt m5.1 (by decide)) n7).2.1]; exact m5.2 t ok⟩, KL_fw f1 m5.1 n7 m6⟩, mz, fun m h0 h1 => MF_mv (m7 m h0 h1) f1 xm (fun k => nx (m7 m h0 h1).1 (by decide) (by decide) (by decide)) g5.1 (fun _ _ => rfl) rfl rfl (fun _ _ => rfl) (fun _ _ _ => ⟨rfl, rfl⟩) (fun _ _ _ => rfl)⟩⟩
        · rcases y with y | y <;> omega
        · rcases y with y | y
          · rw [y.1, g5.1 _ (by rw [k0]; decide) (by rw [k0]; decide) (by rw [k0]; decide)] at t5; omega
          · have k2 := g1.w0.2.1
            rw [y.1, g5.1 _ (by rw [k2]; decide) (by rw [k2]; decide) (by rw [k2]; decide)] at t5; omega
      exact q1 h1 v1 A T (tAdv S) V (tGo_refl _) c1 tj1 ⟨hP1, pr, qv⟩ (by rw [tAdv_52]; exact s52) ((xo f1).mono (fun _ _ y => Or.inl y)) ⟨f1.1, by omega, b2, by rw [cp1]; omega, by rw [cp1]; exact Nat.le_refl _⟩ (fun _ _ => rfl) (fun _ _ _ _ => rfl) z1 (by omega) e48
    · obtain ⟨y1, y2, y3, y4, y5⟩ := wg
      have cp1 : vCp v1 (R 9) = vCp v (R 9) := (y1.cc (hK_lt k9 (by decide)) (nx k9 (by decide) (by decide) (by decide))).2.2.1
      rw [Kt_x]
      exact q2 h1 v1 _ c1 (xo y1) ⟨y1.1, by omega, y4, by rw [cp1]; omega, by rw [cp1]; exact Nat.le_refl _⟩ y2 (by rw [cp1]; omega) (doom_bad (by rw [tAdv_52]; exact s52) (SI_adv si) (TK_adv si.1) z1)
  · rw [if_neg e] at q1 q2
    have nn := c.hn
    rw [if_pos (fun y => e (i59.mp y)), sX1_way_166, sX1_way_167, sX1_way_168, sX1_way_171, sX1_way_172, sX1_way_173 (by rw [nw_h]; decide) (by rw [nw_h]; decide), c_iAround nw_h, Kt_0, sX1_way_176 (by rw [hK_putR, hK_newC, if_neg (by rw [nn]; have := hK_lt k0 (by decide); omega)]; exact c.kk k0 (by decide)), nn]
    have c3 := CR_pR (k := 0) (z := none) (CR_nw (m := 20) (n := 5) c rfl) nw_k rfl
    have f3 : Fw (fun _ _ => False) v (vpR (vnw v 20 5) (hN v.1) 0 none) := Fw.refl.nw.pR (Or.inl (Nat.le_refl _))
    have ao := AO_pl (v1 := v) (o := none)
    have n3 : hN (vpR (vnw v 20 5) (hN v.1) 0 none).1 = hN v.1 + 1 := rfl
    have s3 : hS (vpR (vnw v 20 5) (hN v.1) 0 none).1 = hS v.1 + 5 := rfl
    generalize (vpR (vnw v 20 5) (hN v.1) 0 none) = v3 at *
    generalize (putR (newC h 20 5) (hN v.1) 0 none) = h3 at *
    have tj3 := TJ_0 tj pr qv f3
    have k9' := f3.kk k9 (by decide)
    have cp3 : vCp v3 (R 9) = vCp v (R 9) := (f3.cc (hK_lt k9 (by decide)) (fun y => y)).2.2.1
    have r83 : hR v3.1 (R 0) 8 = some (A 1 (V 9 w - 1)) := by rw [(f3.ff (k := 8) (hK_lt k0 (by decide)) (fun y => y)).2.2, ea]; exact r8
    have gi3 : GI R A T w (-1) p0 v3 S V := GT_GI tj3.1 w0.1 r83 (by rw [ea]; exact f3.kk kam (by decide))
    have n9 : 0 ≤ V 9 w ∧ V 9 w ≤ 12 := by omega
    have xb : ∀ {v4 : vT}, Fw (Xb (R 0) (R 2) T) v3 v4 → Fw (Xp R T) v v4 := fun f => (f3.mono (fun _ _ y => y.elim)).trans (f.mono (fun a k y => by
      rcases y with y | y | y | y
      · exact Or.inl (Or.inl ⟨y.1, by omega⟩)
      · exact Or.inl (Or.inr (Or.inl y))
      · exact Or.inr (Or.inl y)
      · exact Or.inr (Or.inr y)))
    refine blc h3 v3 A T S V (oU w 0 (-1) num 18 (w * 12 + (V 9 w - 1)) S V) (-1) (w * 1024 + V 40 w) (some (hN v.1)) _ c3 gi3 ⟨hP, pr, qv, w0⟩ s52 rfl (by omega) (Or.inl rfl) (fun iso => ?_) (fun iso h4 v4 A4 T4 S3 U3 c4 mx ae ts fu x47 x48 gi4 hP4 go e125 e52 x51 e55 e56 eb fb nw => ?_) (fun h4 v4 p c4 wx d1 d2 => ?_)
    · obtain ⟨o1, o2, o3, o4, o5, o6⟩ := oU_v (w := w) (what := 0) (own := -1) (num := num) (f := 18) (i := w * 12 + (V 9 w - 1)) (U := V) iso (by decide)
      have b40 := pr.2.1
      refine ⟨OP_0 g3.2.2.2 n9 pr qv w0 iso (P iso), ?_, ?_, fun i i1 i2 => ?_⟩
      · rw [show (w * 1024 + V 40 w + 2).toNat = (w * 1024 + V 40 w + 1).toNat + 1 by omega, AR]
        exact ⟨by omega, Or.inl ⟨o2, o3, hN v.1, rfl, ao⟩⟩
      · rw [(oS_v (S := S)).2 0, if_pos g8.symm]
        exact o2
      · rw [(oS_v (S := S)).1, g8] at i2
        omega
    · obtain ⟨o1, o2, o3, o4, o5, o6⟩ := oU_v (w := w) (what := 0) (own := -1) (num := num) (f := 18) (i := w * 12 + (V 9 w - 1)) (U := V) iso (by decide)
      have b40 := pr.2.1
      have k18 : hK v4.1 am = 18 := mx.1.kk (f3.kk kam (by decide)) (by decide)
      rw [Kt_v, sX1_way_179 (c4.kk k18 (by decide)), sX1_way_182]
      have c5 := CR_pR (k := 8) (z := some (A4 3 (w * 1024 + V 40 w))) c4 k18 rfl
      have h55 : xS S3 55 0 = 0 := by rw [xS_v, e55, g8]; omega
      have tj5 := TJ_blk tj3 pr qv w0 h9 iso mx.1 ae ts fu gi4 hP4.2.1 hP4.2.2 h55
      rw [ea] at tj5
      have f5 : Fw (fun a k => a = am ∧ k = 8) v4 (vpR v4 am 8 (some (A4 3 (w * 1024 + V 40 w)))) := Fw.refl.pR (Or.inr ⟨rfl, rfl⟩)
      have st : tStep w S3 U3 = (xS S3, U3) := by
        unfold tStep tClose
        rw [if_neg (by rw [e55, g8]; decide), if_pos e125]
        have eb' : S3 56 (S3 55 0 - 1) = w * 1024 + V 40 w := by rw [e55, show S 55 0 + 1 - 1 = S 55 0 by omega]; exact eb
        rw [eb']
        unfold tShut
        have hb : Ab w (oU w 0 (-1) num 18 (w * 12 + (V 9 w - 1)) S V) (w * 1024 + V 40 w) := ⟨by omega, by rw [o1]; omega⟩
        rw [fu.fb hb (by decide) (by decide), o2]
        rfl
      have x52 : xS S3 52 0 = -1 := by rw [xS_f (by decide) (by decide) (by decide) (by decide) (by decide)]; exact e52
      refine q1 _ _ A4 T4 (xS S3) U3 ?_ c5 tj5 hP4 x52 ?_ ?_ (fun a ha => ts a (by have := f3.1; omega)) (fun f j hf hj => ?_) x51 x47 x48
      · rw [tOpn_e iso]
        refine tGo_trans go ?_
        have := tGo_one (w := w) (U := U3) (more_of (S := S3) e52 (Or.inl (by rw [e55, g8]; decide)))
        rw [st] at this
        exact this
      · exact ((xb mx.1).mono (fun _ _ y => Or.inl y)).trans (f5.mono (fun _ _ y => Or.inr y))
      · obtain ⟨y1, y2, y3, y4, y5⟩ := mx.2
        refine ⟨by show _ ≤ hN v4.1; omega, by show ((hN v4.1 : Nat) : Int) ≤ _; omega, by show _ ≤ hS v4.1; omega, ?_, ?_⟩
        · show ((hS v4.1 : Nat) : Int) + 4 * vCp v (R 9) ≤ hS v.1 + 4 * vCp v4 (R 9) + _
          rw [cp3] at y4
          omega
        · show _ ≤ vCp v4 (R 9)
          rw [cp3] at y5
          exact y5
      · rw [fu.fk (by omega) hj, oU_o (by omega) (by omega)]
    · rw [Kt_x]
      obtain ⟨y1, y2, y3⟩ := wx
      obtain ⟨z1, z2, z3, z4, z5⟩ := y1.2
      rw [cp3] at z4 z5
      refine q2 h4 v4 p c4 (xb y1.1) ⟨by omega, by omega, by omega, by omega, z5⟩ y2 y3 (doom_opn s52 si d1 d2)
end WYE
