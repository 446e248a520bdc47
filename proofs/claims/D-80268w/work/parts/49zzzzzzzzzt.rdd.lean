/-! COMPONENT, 133: Reader.read (33), whole *-/
section RDD
variable {rd tp wr r : Nat} {h : am_H} {v : vT} {C : Nat → Nat} {w : Int} {S U U1 : tSt} {Q : am_O → am_H → Prop}
theorem mM1_l {x p : Int} : (mM1 U w x p).length ≤ 1 := by
  unfold mM1
  exact if_l1'
theorem mLk_len (qv : QV U) : (mLk U w).length ≤ 800 := by
  have b9 := QV_b qv (f := 9) (c := 12) rfl rfl rfl w
  have b19 := QV_b qv (f := 19) (c := 120) rfl rfl rfl w
  have a1 := flat_len (g := mL1 U w) (n := 1) (stL U w (fun s => decide (U 20 s = 1))) (fun x _ => mM1_l)
  have a2 := flat_len (g := mL2 U w) (n := 4) (stL U w (fun s => decide (U 20 s = 9))) (fun x _ => by
    have b30 := QV_b qv (f := 30) (c := 4) rfl rfl rfl x
    have := tCat_len (f := fun k => mM1 U w (U 31 (4 * x + k)) (U 32 (4 * x + k))) (n := 1) (U 30 x).toNat 0 (fun k _ _ => mM1_l)
    unfold mL2
    omega)
  have a3 := flat_len (g := mL3 U w) (n := 1) (stL U w (isO U)) (fun x _ => by unfold mL3; exact if_l1')
  have a4 := tCat_len (f := mL4 U w) (n := 1) (U 9 w).toNat 0 (fun k _ _ => by
    unfold mL4
    split
    · exact Nat.zero_le _
    · exact mM1_l)
  have c1 := stL_le (U := U) (w := w) (p := fun s => decide (U 20 s = 1)) b19
  have c2 := stL_le (U := U) (w := w) (p := fun s => decide (U 20 s = 9)) b19
  have c3 := stL_le (U := U) (w := w) (p := isO U) b19
  unfold mLk
  rw [List.length_append, List.length_append, List.length_append]
  omega
theorem c_read (c : CR h v) (x : RdS v rd tp wr C (S 0)) (sl : SL S) (w0 : 0 ≤ w ∧ w ≤ 1) (qv1 : QV U1) (hr : 9 ≤ r)
    (q1 : (tRun (1 - w) 2001 (tBgn S w) (tClear (1 - w) U1)).1 52 0 = -1 → ∀ h' v' A T p0 g k, CR h' v' → tStops (tRun (1 - w) 2001 (tBgn S w) (tClear (1 - w) U1)).2 (1 - w) ((tRun (1 - w) 2001 (tBgn S w) (tClear (1 - w) U1)).2 19 (1 - w)).toNat k (tLeft (tRun (1 - w) 2001 (tBgn S w) (tClear (1 - w) U1)).2 (1 - w) ((tRun (1 - w) 2001 (tBgn S w) (tClear (1 - w) U1)).2 19 (1 - w)).toNat (tRun (1 - w) 2001 (tBgn S w) (tClear (1 - w) U1)).1) →
      JP (1 - w) g (tRun (1 - w) 2001 (tBgn S w) (tClear (1 - w) U1)).2 (tJdg (tRun (1 - w) 2001 (tBgn S w) (tClear (1 - w) U1)).2 (1 - w) k (tRun (1 - w) 2001 (tBgn S w) (tClear (1 - w) U1)).1 58) (tJdg (tRun (1 - w) 2001 (tBgn S w) (tClear (1 - w) U1)).2 (1 - w) k (tRun (1 - w) 2001 (tBgn S w) (tClear (1 - w) U1)).1 59) →
      JU (RR rd tp wr (hN v.1) C) A T (1 - w) p0 v' (tRun (1 - w) 2001 (tBgn S w) (tClear (1 - w) U1)).2 (tJdg (tRun (1 - w) 2001 (tBgn S w) (tClear (1 - w) U1)).2 (1 - w) k (tRun (1 - w) 2001 (tBgn S w) (tClear (1 - w) U1)).1 58) (tJdg (tRun (1 - w) 2001 (tBgn S w) (tClear (1 - w) U1)).2 (1 - w) k (tRun (1 - w) 2001 (tBgn S w) (tClear (1 - w) U1)).1 59) →
      ((mAll (tRun (1 - w) 2001 (tBgn S w) (tClear (1 - w) U1)).2 (1 - w) (tJdg (tRun (1 - w) 2001 (tBgn S w) (tClear (1 - w) U1)).2 (1 - w) k (tRun (1 - w) 2001 (tBgn S w) (tClear (1 - w) U1)).1 58) (tJdg (tRun (1 - w) 2001 (tBgn S w) (tClear (1 - w) U1)).2 (1 - w) k (tRun (1 - w) 2001 (tBgn S w) (tClear (1 - w) U1)).1 59)).length : Int) ≤ 3 * S 1 0 →
      Fw (fun a k => XR0 rd wr C a k ∨ XLk v a k) v v' → (∀ i, 10 ≤ i → i ≤ 14 → T (C i) = 3) → (hN v'.1 : Int) ≤ hN v.1 + 3100 + 310 * S 1 0 → hS v.1 ≤ hS v'.1 → (hS v'.1 : Int) ≤ hS v.1 + 45000 + 2100 * S 1 0 → Q (Sum.inl (some (vR (some (hN v.1))))) h')
    (q2 : ∀ h' v' p, (tRun (1 - w) 2001 (tBgn S w) (tClear (1 - w) U1)).1 52 0 = p → p ≠ -1 → CR h' v' → Fw (XR0 rd wr C) v v' → hI v'.1 wr 6 = iI p → (hN v'.1 : Int) ≤ hN v.1 + 3100 + 310 * S 1 0 → hS v.1 ≤ hS v'.1 → (hS v'.1 : Int) ≤ hS v.1 + 45000 + 2100 * S 1 0 → Q (Sum.inr wr) h') : Cl (r + 1) 33 [vR (some rd), vR (some tp), vI (iI (S 1 0))] h Q := by
  have pi := PI_bg2 (U1 := U1) sl w0.1 w0.2
  have e48 : tBgn S w 48 0 = S 1 0 := by
    unfold tBgn
    rw [tAdv_55.2.2.1]
    simp only [up_eq, true_and, false_and, and_true, and_false, and_self, if_true, if_false, eq_self, Nat.reduceEqDiff, reduceIte]
  have e52 : tBgn S w 52 0 = -1 := by
    unfold tBgn
    rw [tAdv_52]
    simp only [up_eq, true_and, false_and, and_true, and_false, and_self, if_true, if_false, eq_self, Nat.reduceEqDiff, reduceIte]
  have e55 : tBgn S w 55 0 = 0 := by
    unfold tBgn
    rw [tAdv_55.1]
    simp only [up_eq, true_and, false_and, and_true, and_false, and_self, if_true, if_false, eq_self, Nat.reduceEqDiff, reduceIte]
  have sgB := pi.1.1
  have tkB := pi.2.1
  have s49 := pi.1.2.1
  have hd : tBgn S w 52 0 = -1 → (2000 - tBgn S w 49 0).toNat < 2001 := fun _ => by omega
  have cl : CLR (1 - w) (tClear (1 - w) U1) := CLR_clear
  have sl' := SL_rd (U1 := U1) sl w0.1 w0.2
  have fin2 : ∀ p, doom (1 - w) (tBgn S w, tClear (1 - w) U1) p → (tRun (1 - w) 2001 (tBgn S w) (tClear (1 - w) U1)).1 52 0 = p ∧ p ≠ -1 := fun p ⟨Y, gY, e, ne⟩ => by
    have hY : tMore Y.1 = false := by
      unfold tMore
      rw [decide_eq_false (by rw [e]; exact ne)]
      rfl
    have := tGo_end gY hY pi hd
    rw [show tRun (1 - w) 2001 (tBgn S w) (tClear (1 - w) U1) = Y from this]
    exact ⟨e, ne⟩
  refine rd_a c x (n := S 1 0) (fun h1 v1 c1 f1 x1 a1 a2 a3 a9 al n1 s1 => ?_)
  refine rd_b c1 x1 a1 a2 a3 a9 al sl w0 qv1 (fun nb h2 v2 A c2 ti f2 n2 s2 t2 => ?_) (fun nb h2 v2 c2 f2 w6 n2 s2 t2 => ?_)
  · rw [n1] at ti n2
    have F2 : Fw (XR0 rd wr C) v v2 := f1.trans f2
    have x47 := sgB.1
    have x48 := sgB.2.1
    have x482 := sgB.2.2.1
    have kC : ∀ i, 10 ≤ i → i ≤ 14 → C i < hN v.1 := fun i h1 h2 => hK_lt (x.2.2.2.1 i h1 h2) (by decide)
    have XX : ∀ a k, Xp (RR rd tp wr (hN v.1) C) (TT (hN v.1) C) a k → hN v.1 ≤ a ∨ XR0 rd wr C a k := fun a k y => by
      rcases y with (y | y | ⟨y, i, i1, i2, e⟩) | ⟨y, z⟩ | ⟨y, z⟩
      · exact Or.inr (Or.inl ⟨y.1, by omega, by omega, by omega⟩)
      · exact Or.inr (Or.inr (Or.inl y))
      · by_cases q : i < 10
        · left
          rw [e]
          unfold RR
          rw [if_neg (by omega), if_neg (by omega), if_neg (by omega), if_pos q]
          omega
        · right
          rw [RR_c (by omega)] at e
          exact Or.inr (Or.inr ⟨y, i, by omega, i2, e⟩)
      · unfold TT at z
        by_cases q : a = hN v.1 + 1 ∨ a = hN v.1 + 3
        · left; omega
        · rw [if_neg q] at z
          by_cases q2 : a = hN v.1 + 5 ∨ a = hN v.1 + 6 ∨ a = C 10 ∨ a = C 11 ∨ a = C 12 ∨ a = C 13 ∨ a = C 14
          · rcases q2 with e | e | e | e | e | e | e
            · left; omega
            · left; omega
            · exact Or.inr (Or.inr (Or.inr ⟨y, 10, by omega, by omega, e⟩))
            · exact Or.inr (Or.inr (Or.inr ⟨y, 11, by omega, by omega, e⟩))
            · exact Or.inr (Or.inr (Or.inr ⟨y, 12, by omega, by omega, e⟩))
            · exact Or.inr (Or.inr (Or.inr ⟨y, 13, by omega, by omega, e⟩))
            · exact Or.inr (Or.inr (Or.inr ⟨y, 14, by omega, by omega, e⟩))
          · rw [if_neg q2] at z; omega
      · unfold TT at z
        split at z
        · omega
        · split at z <;> omega
    have hT3 : ∀ i, 10 ≤ i → i ≤ 14 → TT (hN v.1) C (C i) = 3 := fun i h1 h2 => by
      have := ti.1.2.2.2.2.2.1.2.2.2.2.2.2.1
      have hi : i = 10 ∨ i = 11 ∨ i = 12 ∨ i = 13 ∨ i = 14 := by omega
      obtain ⟨_, _, t10, t11, t12, t13, t14⟩ := this
      rcases hi with rfl | rfl | rfl | rfl | rfl
      · exact t10
      · exact t11
      · exact t12
      · exact t13
      · exact t14
    refine rd_loop (R := RR rd tp wr (hN v.1) C) (fun p0 => BLC_all r) hr 2001 h2 v2 A (TT (hN v.1) C) 0 (tBgn S w) (tClear (1 - w) U1) (by omega) c2 ti nb (fun h3 v3 A3 T3 p3 S3 U3 g3 c3 ti3 m3 f3 rm3 tt3 l47 l48 => ?_) (fun h3 v3 p c3 f3 rm3 w6 cp dm => ?_)
    · have px3 := ti3.2.2.2.2
      obtain ⟨⟨pi3, pr3, qv3, w3⟩, ⟨pl3, pk3⟩, ⟨s52, _⟩, _⟩ := px3
      have s55 := ti3.1.2.2.2.2.2.2.1.2
      have hY : tMore S3 = false := by
        unfold tMore
        rw [s55, m3]
        simp
      have eY := tGo_end g3 hY pi hd
      have eY' : tRun (1 - w) 2001 (tBgn S w) (tClear (1 - w) U1) = (S3, U3) := eY
      rw [eY'] at q1 sl'
      dsimp only at q1 sl'
      have py : PY (1 - w) S3 U3 := PY_go g3 w3 pi (QV_clear qv1) PR_clear (PY_0 cl.1.1 cl.1.2.2.1 cl.1.2.2.2 cl.1.2.1 e55 s49.1) s52
      have zh : ZH (1 - w) U3 := ZH_go g3 w3 pi (QV_clear qv1) PR_clear (ZH_0 cl.1.2.2.1) s52
      have tb := tw_bound pi3
      have qw := PQ_QW pr3.1 qv3 pk3 ⟨pr3.2.1, by omega⟩
      have s493 := pi3.1.2.1
      obtain ⟨g, k, st, jp⟩ := JP_ex py zh pr3.1 qv3 qw w3 s493.2 sl'.2.2.2.2
      have ml := mAll_go (c := tJdg U3 (1 - w) k S3 58) (l := tJdg U3 (1 - w) k S3 59) py.2.1 qv3 qw.1.1 s55
      have mp := mPar_len (w := 1 - w) qv3
      have mk := mLk_len (w := 1 - w) qv3
      have p3le := ti3.1.2.2.2.1
      have sg3 := pi3.1.1
      have tk3 := pi3.2.1.1
      have b1 := sg3.2.1
      have b2 := sg3.2.2.1
      refine rd_end jp (by omega) c3 ti3 (by omega) mp (by rw [List.length_append]; omega) (fun h4 v4 c4 ju rm4 f4 => ?_)
      have F3 : Fw (XR0 rd wr C) v v3 := F2.tr2 f3 XX
      have F4 : Fw (fun a k => XR0 rd wr C a k ∨ XLk v a k) v v4 := (F3.mono (fun a k y => Or.inl y)).tr2 f4 (fun a k y => by
        by_cases z : a < hN v.1
        · right; right
          unfold XLk at y ⊢
          rw [(F3.2.2 a z).1] at y
          exact y
        · left; omega)
      obtain ⟨z1, z2, z3, z4, z5⟩ := rm3.trans rm4
      have cpb := ju.2.1.2
      rw [insA_len] at cpb
      have l4 : (([] : List tMi).length) = 0 := rfl
      have T3C : ∀ i, 10 ≤ i → i ≤ 14 → T3 (C i) = 3 := fun i h1 h2 => by
        rw [tt3 _ (by have := F2.1; have := kC i h1 h2; omega)]
        exact hT3 i h1 h2
      refine q1 s52 h4 v4 A3 T3 p3 g k c4 st jp ju ?_ F4 T3C ?_ ?_ ?_
      · omega
      · omega
      · omega
      · omega
    · obtain ⟨d1, d2⟩ := fin2 p dm
      obtain ⟨z1, z2, z3, z4, z5⟩ := rm3
      refine q2 h3 v3 p d1 d2 c3 (F2.tr2 f3 XX) w6 ?_ ?_ ?_
      · omega
      · omega
      · omega
  · obtain ⟨d1, d2⟩ := fin2 _ (doom_bad e52 pi.1 tkB nb)
    have := sl.2.1
    refine q2 h2 v2 _ d1 d2 c2 (f1.trans f2) w6 ?_ ?_ ?_
    · omega
    · omega
    · omega
end RDD
