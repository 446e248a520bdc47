/-! COMPONENT, 66: the kinds of a catch, all *-/
/-- names go on if a sign is at hand -/
def tLr (sp : Int) (n d : Nat) (Z : tSt) : Bool × (tSt × List (Int × Int)) := if Z 51 0 = sp then tLs sp n d Z else (true, (Z, []))
section CA9
variable {r ca l : Nat} {R : Nat → Nat} {A : Nat → Int → Nat} {w p0 sp : Int} {U : tSt} {Q : am_O → am_H → Prop} {l1 l2 l5 : Option am_V}
theorem tLs_r {n d : Nat} {S : tSt} (h4 : n ≠ 4) (hn : tIsN (tAdv S) = true) : tLs sp n (d + 1) S = ((tLr sp (n + 1) d (tName (tAdv S))).1, ((tLr sp (n + 1) d (tName (tAdv S))).2.1, (tName (tAdv S) 53 0, tName (tAdv S) 54 0) :: (tLr sp (n + 1) d (tName (tAdv S))).2.2)) := by
  rw [tLs, if_neg h4, if_pos hn]
  unfold tLr
  by_cases hs : tName (tAdv S) 51 0 = sp
  · rw [if_pos hs, if_pos hs]
  · rw [if_neg hs, if_neg hs]
theorem tLs_x {n d : Nat} {S : tSt} (e : n = 4 ∨ ¬ tIsN (tAdv S) = true) : tLs sp n (d + 1) S = (false, (tFail (tAdv S), [])) := by
  rw [tLs]
  by_cases q : n = 4
  · rw [if_pos q]
  · rw [if_neg q, if_neg (e.resolve_left q)]
theorem nK_app {pre M : List (Int × Int)} {q : Int × Int} : nK U w (pre ++ q :: M) pre.length = kO U w q.1 q.2 ∧ nP (pre ++ q :: M) pre.length = q.2 := by
  unfold nK nP
  rw [show ((pre.length : Int)).toNat = pre.length by omega, getD_app]
  exact ⟨rfl, rfl⟩
/-- thrown while the kinds were read -/
theorem FL_wg {v v1 v' : vT} {L : List tMi} {p n s : Int} {m t : Nat} {S : tSt} (t0 : PT v1 (R 0) (R 1) (R 2) S) (f : Fw (Xs (R 0) (R 2) l (R 9)) v v1) (rm : RM (R 9) v v1 n s) (ml : ML v1 (R 9) L) (hl : L.length ≤ 2800) (wg : Wg (R 0) (R 2) m t v1 v' p) : FL (R 0) (R 2) (R 9) (Xs (R 0) (R 2) l (R 9)) v v' p (n + m) (s + t) :=
  Wg_FL f rm ml hl wg (fun _ _ => Or.inl) (fun z => (Xq_k t0 z).2.2.2 rfl) (by rw [t0.w0.1, t0.w0.2.1]; decide)
theorem ct_loop : ∀ (d : Nat) (pre : List (Int × Int)) (Z : tSt) (h : am_H) (v : vT) (L : List tMi) (nm : Nat), pre.length ≤ 4 → pre.length + d = 5 → CR h v → PT v (R 0) (R 1) (R 2) Z → Z 52 0 = -1 → Z 51 0 ≠ -2 → RUn v (R 0) (R 3) (R 5) (R 9) → ML v (R 9) L → L.length + d ≤ 2790 → l ≠ R 9 → KMp v (R 5) (A 0) U w p0 → p0 ≤ Z 47 0 → hK v.1 ca = 22 → hR v.1 ca 1 = some l → R 5 ≠ l →
    NL v (A 0) l pre.length (nK U w (pre ++ (tLr 124 pre.length d Z).2.2)) (nP (pre ++ (tLr 124 pre.length d Z).2.2)) →
    ((tLr 124 pre.length d Z).1 = true → (tLr 124 pre.length d Z).2.1 51 0 ≠ -2 → ∀ h' v' nm', CR h' v' → Fw (Xs (R 0) (R 2) l (R 9)) v v' → PT v' (R 0) (R 1) (R 2) (tLr 124 pre.length d Z).2.1 → NL v' (A 0) l (pre ++ (tLr 124 pre.length d Z).2.2).length (nK U w (pre ++ (tLr 124 pre.length d Z).2.2)) (nP (pre ++ (tLr 124 pre.length d Z).2.2)) → ML v' (R 9) (insA L (mNs U w (tLr 124 pre.length d Z).2.2)) →
      RM (R 9) v v' (20 * ((tLr 124 pre.length d Z).2.1 47 0 - Z 47 0) + 8 * d) (200 * ((tLr 124 pre.length d Z).2.1 47 0 - Z 47 0) + 80 * d) → Rn (r + 1) 283 134 [some (vR (some (R 0))), l1, l2, some (vR (some ca)), some (vR (some nm')), l5] [] h' Q) →
    (((tLr 124 pre.length d Z).1 = true → (tLr 124 pre.length d Z).2.1 51 0 = -2) → ∀ h' v', CR h' v' → FL (R 0) (R 2) (R 9) (Xs (R 0) (R 2) l (R 9)) v v' (fP (tLr 124 pre.length d Z).1 (tLr 124 pre.length d Z).2.1) (20 * ((tLr 124 pre.length d Z).2.1 47 0 - Z 47 0) + 8 * d) (200 * ((tLr 124 pre.length d Z).2.1 47 0 - Z 47 0) + 80 * d) → Q (Sum.inr (R 2)) h') →
    Rn (r + 1) 283 63 [some (vR (some (R 0))), l1, l2, some (vR (some ca)), some (vR (some nm)), l5] [] h Q := by
  intro d
  induction d with
  | zero => intro pre Z h v L nm h4 hd; omega
  | succ d ih =>
    intro pre Z h v L nm h4 hd c t s52 n51 y ml hl nlx km pp kc rc mkl nl q1 q2
    have k0 := t.w0.1
    have k2 := t.w0.2.1
    have si := t.2.1
    have tk := t.2.2.1
    have s51 := si.2.2.2.1
    have e6 : hI h (R 0) 6 = iI (Z 51 0) := by rw [c.ii k0 rfl]; exact t.1.2.2.2.1
    have i124 : iI (Z 51 0) = iI 124 ↔ Z 51 0 = 124 := iI_eq (by omega) (by omega) (by omega) (by omega)
    rw [sX1_caught_63, sX1_caught_64 (c.kk k0 (by decide)), e6, sX1_caught_67, sX1_caught_69, i_124]
    by_cases sg : Z 51 0 = 124
    · have R0 : tLr 124 pre.length (d + 1) Z = tLs 124 pre.length (d + 1) Z := if_pos sg
      rw [R0] at nl q1 q2
      have si1 := SI_adv si
      have tk1 := TK_adv si.1
      have e521 : tAdv Z 52 0 = -1 := by rw [tAdv_52]; exact s52
      obtain ⟨p1, p2, p3⟩ := tAdv_47 si
      have f52 := fail_52 e521
      have f47 : tFail (tAdv Z) 47 0 = tAdv Z 47 0 := (fail_st si1 tk1 e521).2.2.2.2.2.2
      have bad : (pre.length = 4 ∨ ¬ tIsN (tAdv Z) = true) → ∀ h' v', CR h' v' → FL (R 0) (R 2) (R 9) (Xs (R 0) (R 2) l (R 9)) v v' (tAdv Z 49 0) (20 * (tAdv Z 47 0 - Z 47 0) + 4) (200 * (tAdv Z 47 0 - Z 47 0) + 40) → Q (Sum.inr (R 2)) h' := fun e h' v' c' fl => by
        have E := tLs_x (sp := 124) (d := d) e
        rw [E] at q2
        refine q2 (fun q => Bool.noConfusion q) h' v' c' ?_
        have : fP false (tFail (tAdv Z)) = tAdv Z 49 0 := by
          unfold fP
          rw [if_neg (by decide), f52]
        show FL _ _ _ _ _ _ (fP false (tFail (tAdv Z))) (20 * (tFail (tAdv Z) 47 0 - Z 47 0) + _) (200 * (tFail (tAdv Z) 47 0 - Z 47 0) + _)
        rw [this, f47]
        exact fl.le (by omega) (by omega)
      rw [if_neg (fun q => q (i124.mpr sg)), sX1_caught_72, sX1_caught_73 (c.kk k0 (by decide))]
      refine t_next c t (fun z h1 v1 c1 f1 t1 n1 s0 s1 _ => ?_) (fun z h1 v1 c1 wg => ?_)
      · have y1 := RUn_q t f1 y
        have ml1 := ML_q t f1 ml
        have nl1 := NL_q t f1 nl
        have km1 := KMp_q t f1 km
        have rm1 : RM (R 9) v v1 (20 * (tAdv Z 47 0 - Z 47 0)) (200 * (tAdv Z 47 0 - Z 47 0)) := RM_q t f1 ml n1 s0 s1
        have kc1 := f1.kk kc (by decide)
        have nca0 : ca ≠ R 0 := fun q => by rw [q, k0] at kc; exact absurd kc (by decide)
        have nca2 : ca ≠ R 2 := fun q => by rw [q, k2] at kc; exact absurd kc (by decide)
        have rc1 : hR v1.1 ca 1 = some l := by rw [(f1.ff (k := 1) (hK_lt kc (by decide)) (fun q => by rcases q with q | q; exact nca0 q.1; exact nca2 q.1)).2.2]; exact rc
        have k01 := t1.w0.1
        have F1 : Fw (Xs (R 0) (R 2) l (R 9)) v v1 := f1.mono (fun b k q => Or.inl q)
        have key : Rn (r + 1) 283 93 [some (vR (some (R 0))), l1, l2, some (vR (some ca)), some (vR (some nm)), l5] [vI (bI (pre.length ≠ 4)), vR (some (R 0))] h1 Q := by
          rw [sX1_caught_93 (c1.kk k01 (by decide))]
          refine t_need c1 t1 (fun p4 => ?_) (fun p4 h2 v2 c2 wg => ?_)
          · rw [Kt_0]
            by_cases hn : tIsN (tAdv Z) = true
            · have E := tLs_r (sp := 124) (d := d) p4 hn
              obtain ⟨f53, f54, f47', f49, f50, f51⟩ := tName_g hn
              obtain ⟨nn1, nn2, n55, n56, n48, n52, n47⟩ := nm_name si1 tk1 hn
              rw [E] at nl nl1 q1 q2
              have A1 := nK_app (U := U) (w := w) (pre := pre) (q := (tName (tAdv Z) 53 0, tName (tAdv Z) 54 0)) (M := (tLr 124 (pre.length + 1) d (tName (tAdv Z))).2.2)
              have e53 : kO U w (tAdv Z 50 0) (tAdv Z 49 0) = kO U w (tName (tAdv Z) 53 0) (tName (tAdv Z) 54 0) := by rw [f53, f54]
              refine ct_oneb (n := pre.length) (kf := nK U w (pre ++ (tName (tAdv Z) 53 0, tName (tAdv Z) 54 0) :: (tLr 124 (pre.length + 1) d (tName (tAdv Z))).2.2)) (pf := nP (pre ++ (tName (tAdv Z) 53 0, tName (tAdv Z) 54 0) :: (tLr 124 (pre.length + 1) d (tName (tAdv Z))).2.2)) c1 t1 y1 ml1 (by omega) km1 (by omega) nlx kc1 rc1 (by omega) nl1 (by rw [A1.1, e53]) (by rw [A1.2, f54]) (fun _ z2 h2 v2 nm2 c2 f2 t2 nl2 ml2 rm2 => ?_) (fun _ z2 h2 v2 c2 wg => ?_) (fun q => absurd hn q)
              · have y2 : RUn v2 (R 0) (R 3) (R 5) (R 9) := RUn_fw f2 y1 (fun q => by rcases q with q | q; exact (Xq_k t1 q).2.2.1 rfl; omega) (fun k hk q => by
                  rcases q with q | q
                  · have := (Xq_k t1 q).1
                    have := y1.2.2.1
                    omega
                  · omega)
                have km2 := KMp_fw f2 km1 (fun q => by
                  rcases q with q | q
                  · exact (Xq_k t1 q).2.2.2 rfl
                  · have k5 := km1.2.2.1
                    rcases q.1 with q | q
                    · have k9 := ml1.1.choose_spec.1.1
                      rw [q, k9] at k5
                      exact absurd k5 (by decide)
                    · exact mkl q)
                have kc2 := f2.kk kc1 (by decide)
                have rc2 : hR v2.1 ca 1 = some l := by
                  rw [(f2.ff (k := 1) (hK_lt kc1 (by decide)) (fun q => by
                    rcases q with (q | q) | q
                    · exact nca0 q.1
                    · exact nca2 q.1
                    · omega)).2.2]
                  exact rc1
                have il : (if kO U w (tAdv Z 50 0) (tAdv Z 49 0) = -1 then [((1 : Int), (tAdv Z 49 0, (-1 : Int)))] else []).length ≤ 1 := if_len
                have ap : pre ++ (tName (tAdv Z) 53 0, tName (tAdv Z) 54 0) :: (tLr 124 (pre.length + 1) d (tName (tAdv Z))).2.2 = (pre ++ [(tName (tAdv Z) 53 0, tName (tAdv Z) 54 0)]) ++ (tLr 124 (pre.length + 1) d (tName (tAdv Z))).2.2 := by simp
                have lp : (pre ++ [(tName (tAdv Z) 53 0, tName (tAdv Z) 54 0)]).length = pre.length + 1 := by simp
                rw [ap] at nl2 q1
                have mcat : ∀ M, mNs U w ((tName (tAdv Z) 53 0, tName (tAdv Z) 54 0) :: M) = (if kO U w (tAdv Z 50 0) (tAdv Z 49 0) = -1 then [(1, (tAdv Z 49 0, -1))] else []) ++ mNs U w M := fun M => by
                  rw [mNs, f53, f54]
                refine ih (pre ++ [(tName (tAdv Z) 53 0, tName (tAdv Z) 54 0)]) (tName (tAdv Z)) h2 v2 _ nm2 (by rw [lp]; omega) (by rw [lp]; omega) c2 t2 (by rw [n52]; exact e521) z2 y2 ml2 (by rw [insA_len]; omega) nlx km2 (by omega) kc2 rc2 mkl ?_ ?_ ?_
                · rw [lp]
                  have : ((pre.length + 1 : Nat) : Int) = (pre.length : Int) + 1 := by omega
                  rw [this]
                  exact nl2
                · rw [lp]
                  intro ok z3 h3 v3 nm3 c3 f3 t3 nl3 ml3 rm3
                  refine q1 ok z3 h3 v3 nm3 c3 (F1.trans (f2.trans f3)) t3 nl3 ?_ (((rm1.trans rm2).trans rm3).le ?_ ?_)
                  · show ML v3 (R 9) (insA L (mNs U w ((tName (tAdv Z) 53 0, tName (tAdv Z) 54 0) :: (tLr 124 (pre.length + 1) d (tName (tAdv Z))).2.2)))
                    rw [mcat, insA_app]
                    exact ml3
                  · show _ ≤ 20 * ((tLr 124 (pre.length + 1) d (tName (tAdv Z))).2.1 47 0 - Z 47 0) + 8 * ((d + 1 : Nat) : Int)
                    omega
                  · show _ ≤ 200 * ((tLr 124 (pre.length + 1) d (tName (tAdv Z))).2.1 47 0 - Z 47 0) + 80 * ((d + 1 : Nat) : Int)
                    omega
                · rw [lp]
                  intro bad2 h3 v3 c3 fl
                  refine q2 bad2 h3 v3 c3 ?_
                  obtain ⟨a1, a2, a3, a4⟩ := fl
                  refine ⟨F1.trans (f2.trans a1), a2, ((rm1.trans rm2).trans a3).le ?_ ?_, a4⟩
                  · show _ ≤ 20 * ((tLr 124 (pre.length + 1) d (tName (tAdv Z))).2.1 47 0 - Z 47 0) + 8 * ((d + 1 : Nat) : Int)
                    omega
                  · show _ ≤ 200 * ((tLr 124 (pre.length + 1) d (tName (tAdv Z))).2.1 47 0 - Z 47 0) + 80 * ((d + 1 : Nat) : Int)
                    omega
              · have Lr : tLr 124 (pre.length + 1) d (tName (tAdv Z)) = (true, (tName (tAdv Z), [])) := if_neg (by omega)
                rw [Lr] at q2
                refine q2 (fun _ => z2) h2 v2 c2 ?_
                have fl := FL_wg t1 F1 rm1 ml1 (by omega) wg
                show FL _ _ _ _ _ _ (fP true (tName (tAdv Z))) (20 * (tName (tAdv Z) 47 0 - Z 47 0) + _) (200 * (tName (tAdv Z) 47 0 - Z 47 0) + _)
                exact fl.le (by omega) (by omega)
            · refine ct_oneb (n := pre.length) (kf := fun i => if i = (pre.length : Int) then kO U w (tAdv Z 50 0) (tAdv Z 49 0) else nK U w (pre ++ (tLs 124 pre.length (d + 1) Z).2.2) i) (pf := fun i => if i = (pre.length : Int) then tAdv Z 49 0 else nP (pre ++ (tLs 124 pre.length (d + 1) Z).2.2) i) c1 t1 y1 ml1 (by omega) km1 (by omega) nlx kc1 rc1 (by omega) (NL_congr nl1 (fun i i0 i1 => ⟨if_neg (by omega), if_neg (by omega)⟩)) (if_pos rfl) (if_pos rfl) (fun q => absurd q hn) (fun q => absurd q hn) (fun _ h2 v2 c2 wg => ?_)
              exact bad (Or.inr hn) h2 v2 c2 (FL_wg t1 F1 rm1 ml1 (by omega) wg)
          · rw [Kt_x]
            refine bad (Or.inl (Classical.byContradiction p4)) h2 v2 c2 ((FL_wg t1 F1 rm1 ml1 (by omega) wg).le (by omega) (by omega))
        obtain ⟨_, n0, sz, _⟩ := nl1.raw c1
        rw [Kt_0, sX1_caught_76, sX1_caught_77, sX1_caught_78 (c1.kk kc1 (by decide)), c1.rr kc1 rfl, rc1, sX1_caught_81 (c1.kk nl1.1 (by decide)), sz, Kt_v, sX1_caught_84, sX1_caught_85, i_4]
        unfold bI at key
        by_cases p4 : pre.length = 4
        · rw [if_pos (by rw [iI_le (by omega) (by omega) (by omega) (by omega)]; omega), sX1_caught_92]
          rw [if_neg (c := pre.length ≠ 4) (fun q => q p4)] at key
          exact key
        · rw [if_neg (by rw [iI_le (by omega) (by omega) (by omega) (by omega)]; omega), sX1_caught_88, sX1_caught_89]
          rw [if_pos (c := pre.length ≠ 4) p4] at key
          exact key
      · rw [Kt_x]
        have s50 : tAdv Z 50 0 = 0 := tk1.2.2.2 (by omega)
        have fl := FL_wg (l := l) t (Fw.refl (X := Xs (R 0) (R 2) l (R 9))) (n := 0) (s := 0) ⟨Nat.le_refl _, by omega, Nat.le_refl _, by omega, Nat.le_refl _⟩ ml (by omega) wg
        exact bad (Or.inr (fun q => (tIsN_iff.mp q).1 s50)) h1 v1 c1 (fl.le (by omega) (by omega))
    · have R0 : tLr 124 pre.length (d + 1) Z = (true, (Z, [])) := if_neg sg
      rw [R0] at nl q1
      rw [if_pos (fun q => sg (i124.mp q))]
      refine q1 rfl n51 h v nm c Fw.refl t ?_ ?_ ⟨Nat.le_refl _, ?_, Nat.le_refl _, ?_, Nat.le_refl _⟩
      · have e : (pre ++ ([] : List (Int × Int))).length = pre.length := by simp
        show NL v (A 0) l ((pre ++ ([] : List (Int × Int))).length : Nat) _ _
        rw [e]
        exact nl
      · exact ml
      · show (hN v.1 : Int) ≤ hN v.1 + (20 * (Z 47 0 - Z 47 0) + 8 * ((d + 1 : Nat) : Int))
        omega
      · show (hS v.1 : Int) + 4 * vCp v (R 9) ≤ hS v.1 + 4 * vCp v (R 9) + (200 * (Z 47 0 - Z 47 0) + 80 * ((d + 1 : Nat) : Int))
        omega
end CA9
