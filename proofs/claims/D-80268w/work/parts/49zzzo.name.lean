/-! COMPONENT, 12: want, name *-/
section NMS
variable {r rd tp wr a b k : Nat} {h : am_H} {v v' : vT} {p x : Int} {S : tSt} {X : Nat → Nat → Prop} {Q : am_O → am_H → Prop}
theorem Wg.pre {v1 : vT} {n s n1 s1 : Nat} (f : Fw (Xq rd wr) v v1) (b1 : hN v1.1 ≤ hN v.1 + n1) (s0 : hS v.1 ≤ hS v1.1) (b2 : hS v1.1 ≤ hS v.1 + s1) (w : Wg rd wr n s v1 v' p) : Wg rd wr (n1 + n) (s1 + s) v v' p := by
  obtain ⟨a1, a2, a3, a4, a5⟩ := w
  exact ⟨f.trans a1, a2, by omega, by omega, by omega⟩
theorem t_want (c : CR h v) (t : PT v rd tp wr S) {x : Int} (hx : -2147483648 ≤ x ∧ x < 2147483648)
    (q1 : S 51 0 = x → tAdv S 51 0 ≠ -2 → ∀ h' v', CR h' v' → Fw (Xq rd wr) v v' → PT v' rd tp wr (tAdv S) → (hN v'.1 : Int) ≤ hN v.1 + 20 * (tAdv S 47 0 - S 47 0) → hS v.1 ≤ hS v'.1 → (hS v'.1 : Int) ≤ hS v.1 + 200 * (tAdv S 47 0 - S 47 0) → (∀ k, k = 14 → hI v'.1 rd k = hI v.1 rd k) → Q (Sum.inl none) h')
    (q2 : S 51 0 = x → tAdv S 51 0 = -2 → ∀ h' v', CR h' v' → Wg rd wr 0 0 v v' (tAdv S 49 0) → Q (Sum.inr wr) h')
    (q3 : S 51 0 ≠ x → ∀ h' v', CR h' v' → Wg rd wr 0 0 v v' (S 49 0) → Q (Sum.inr wr) h') : Cl r 128 [vR (some rd), vI (iI x)] h Q := by
  have kr := c.kk t.2.2.2.2.1 (by decide)
  have si := t.2.1.2.2.2.1
  have e : hI h rd 6 = iI (S 51 0) := by rw [c.ii t.2.2.2.2.1 rfl]; exact t.1.2.2.2.1
  have ie : iI (S 51 0) = iI x ↔ S 51 0 = x := iI_eq (by omega) (by omega) hx.1 hx.2
  have key : Rn r 128 14 [some (vR (some rd)), some (vI (iI x))] [vI (bI (S 51 0 = x)), vR (some rd)] h Q := by
    rw [sX1_want_2_14 kr]
    refine t_need c t (fun p => ?_) (fun p h' v' c' w' => ?_)
    · rw [Kt_0, sX1_want_2_17, sX1_want_2_18 kr]
      refine t_next c t (fun z h' v' c' f' t' b1 b2 b3 b4 => ?_) (fun z h' v' c' w' => ?_)
      · rw [Kt_0, sX1_want_2_21]
        exact q1 p z h' v' c' f' t' b1 b2 b3 b4
      · rw [Kt_x]
        exact q2 p z h' v' c' w'
    · rw [Kt_x]
      exact q3 p h' v' c' w'
  rw [eX1_want_2, sX1_want_2_0, sX1_want_2_1, sX1_want_2_2 kr, e, sX1_want_2_5, sX1_want_2_6]
  unfold bI at key
  by_cases p : S 51 0 = x
  · rw [if_pos p] at key
    rw [if_neg (fun z => z (ie.mpr p)), sX1_want_2_9, sX1_want_2_10]
    exact key
  · rw [if_neg p] at key
    rw [if_pos (fun z => p (ie.mp z)), sX1_want_2_13]
    exact key
theorem t_wantW (c : CR h v) (t : PT v rd tp wr S) (hk : k ≤ 26) (lk : lts (cT k)) (nk : cT k ≠ [])
    (q1 : S 50 0 = wN (cT k) → tAdv S 51 0 ≠ -2 → ∀ h' v', CR h' v' → Fw (Xq rd wr) v v' → PT v' rd tp wr (tAdv S) → (hN v'.1 : Int) ≤ hN v.1 + 20 * (tAdv S 47 0 - S 47 0) → hS v.1 ≤ hS v'.1 → (hS v'.1 : Int) ≤ hS v.1 + 200 * (tAdv S 47 0 - S 47 0) → (∀ k, k = 14 → hI v'.1 rd k = hI v.1 rd k) → Q (Sum.inl none) h')
    (q2 : S 50 0 = wN (cT k) → tAdv S 51 0 = -2 → ∀ h' v', CR h' v' → Wg rd wr 0 0 v v' (tAdv S 49 0) → Q (Sum.inr wr) h')
    (q3 : S 50 0 ≠ wN (cT k) → ∀ h' v', CR h' v' → Wg rd wr 0 0 v v' (S 49 0) → Q (Sum.inr wr) h') : Cl r 127 [vR (some rd), vR (some (hE v.1 k))] h Q := by
  have kr := c.kk t.2.2.2.2.1 (by decide)
  rw [eX1_want, sX1_want_0, sX1_want_1, sX1_want_2, sX1_want_3 kr, t_isWord c t hk lk nk, Kt_v, sX1_want_6 kr]
  refine t_need c t (fun p => ?_) (fun p h' v' c' w' => ?_)
  · rw [Kt_0, sX1_want_9, sX1_want_10 kr]
    refine t_next c t (fun z h' v' c' f' t' b1 b2 b3 b4 => ?_) (fun z h' v' c' w' => ?_)
    · rw [Kt_0, sX1_want_13]
      exact q1 p z h' v' c' f' t' b1 b2 b3 b4
    · rw [Kt_x]
      exact q2 p z h' v' c' w'
  · rw [Kt_x]
    exact q3 p h' v' c' w'
theorem tIsN_iff : tIsN S = true ↔ S 50 0 ≠ 0 ∧ ¬ tKw (S 50 0) = true := by
  unfold tIsN
  rw [Bool.and_eq_true, decide_eq_true_eq, Bool.not_eq_true', Bool.not_eq_true]
theorem tName_e (n : tIsN S = true) : tName S = tAdv (up (up S 53 0 (S 50 0)) 54 0 (S 49 0)) := if_pos n
theorem tName_g (n : tIsN S = true) : tName S 53 0 = S 50 0 ∧ tName S 54 0 = S 49 0 ∧ tName S 47 0 = tAdv S 47 0 ∧ tName S 49 0 = tAdv S 49 0 ∧ tName S 50 0 = tAdv S 50 0 ∧ tName S 51 0 = tAdv S 51 0 := by
  rw [tName_e n]
  have u0 : up (up S 53 0 (S 50 0)) 54 0 (S 49 0) 0 = S 0 := by funext j; simp only [up_eq, true_and, false_and, and_true, and_false, and_self, if_true, if_false, eq_self, Nat.reduceEqDiff, reduceIte]
  unfold tAdv tTok
  simp only [up_eq, true_and, false_and, and_true, and_false, and_self, if_true, if_false, eq_self, Nat.reduceEqDiff, reduceIte, u0]
theorem t_name (c : CR h v) (t : PT v rd tp wr S)
    (q1 : tIsN S = true → tName S 51 0 ≠ -2 → ∀ h' v' a, CR h' v' → Fw (Xq rd wr) v v' → PT v' rd tp wr (tName S) → NA v' rd (tName S) a → (hN v'.1 : Int) ≤ hN v.1 + 20 * (tName S 47 0 - S 47 0) + 4 → hS v.1 ≤ hS v'.1 → (hS v'.1 : Int) ≤ hS v.1 + 200 * (tName S 47 0 - S 47 0) + 40 → Q (Sum.inl (some (vR (some a)))) h')
    (q2 : tIsN S = true → tName S 51 0 = -2 → ∀ h' v', CR h' v' → Wg rd wr 4 40 v v' (tName S 49 0) → Q (Sum.inr wr) h')
    (q3 : ¬ tIsN S = true → ∀ h' v', CR h' v' → Wg rd wr 4 40 v v' (S 49 0) → Q (Sum.inr wr) h') : Cl r 126 [vR (some rd)] h Q := by
  have kr := c.kk t.2.2.2.2.1 (by decide)
  have tk := t.2.2.2.2.1
  have key : ∀ (P : Prop) [Decidable P] (h1 : am_H) (v1 : vT), (P ↔ tIsN S = true) → CR h1 v1 → Fw (fun _ _ => False) v v1 → hN v1.1 ≤ hN v.1 + 4 → hS v.1 ≤ hS v1.1 → hS v1.1 ≤ hS v.1 + 40 → Rn r 126 20 [some (vR (some rd)), none] [vI (bI P), vR (some rd)] h1 Q := by
    intro P _ h1 v1 iff c1 f1 n1 s0 s1
    have t1 := PT_0 f1 t
    have k1 := c1.kk t1.2.2.2.2.1 (by decide)
    have fq : Fw (Xq rd wr) v v1 := f1.mono (fun _ _ z => z.elim)
    rw [sX1_name_20 k1]
    refine t_need c1 t1 (fun p => ?_) (fun p h' v' c' w' => ?_)
    · have ns := iff.mp p
      obtain ⟨f53, f54, f47, f49, f50, f51⟩ := tName_g ns
      rcases t1.1.2.2.2.2 with ⟨z, _⟩ | ⟨_, a, e1, e2, e3, e4⟩
      · exact absurd z (tIsN_iff.mp ns).1
      · rw [Kt_0, sX1_name_23, sX1_name_24 k1, c1.rr t1.2.2.2.2.1 rfl, e1, sX1_name_27, sX1_name_28, sX1_name_29, sX1_name_30 k1, c1.ii t1.2.2.2.2.1 rfl, t1.1.2.2.1, sX1_name_33 k1, sX1_name_36, sX1_name_37 (by rw [hK_putI]; exact k1)]
        have c2 := CR_pI (k := 14) (x := iI (S 49 0)) c1 t1.2.2.2.2.1 rfl
        have f2 : Fw (fun a k => a = rd ∧ k = 14) v1 (vpI v1 rd 14 (iI (S 49 0))) := Fw.refl.pI (Or.inr ⟨rfl, rfl⟩)
        have tr : rd ≠ tp := fun z => by have := t1.1.1.2.1; rw [← z, t1.2.2.2.2.1] at this; exact absurd this (by decide)
        have t2 : PT (vpI v1 rd 14 (iI (S 49 0))) rd tp wr S := PT_fw f2 t1 (fun k hk z => by have := z.2; omega) (fun k z => tr z.1.symm) (fun a z => absurd z.2 (by decide))
        have e14 : hI (vpI v1 rd 14 (iI (S 49 0))).1 rd 14 = iI (S 49 0) := by rw [vpI_1, hI_putI, if_pos ⟨rfl, rfl⟩]
        have ka2 := f2.kk e2 (by decide)
        have ta2 : vTx (vpI v1 rd 14 (iI (S 49 0))) a = vTx v1 a := rfl
        have n2 : hN (vpI v1 rd 14 (iI (S 49 0))).1 = hN v1.1 := rfl
        have s2 : hS (vpI v1 rd 14 (iI (S 49 0))).1 = hS v1.1 := rfl
        generalize (vpI v1 rd 14 (iI (S 49 0))) = v2 at *
        generalize (putI h1 rd 14 (iI (S 49 0))) = h2 at *
        have f12 : Fw (Xq rd wr) v v2 := fq.trans (f2.mono (fun a k z => Or.inl ⟨z.1, Or.inr z.2⟩))
        have tS : PT v2 rd tp wr (up (up S 53 0 (S 50 0)) 54 0 (S 49 0)) := by
          obtain ⟨y1, y2, y3, y4, y5⟩ := t2
          refine ⟨?_, ?_, ?_, y4, y5⟩
          · unfold TR at y1 ⊢
            simp only [up_eq, true_and, false_and, and_true, and_false, and_self, if_true, if_false, eq_self, Nat.reduceEqDiff, reduceIte]
            exact y1
          · unfold SI SG at y2 ⊢
            simp only [up_eq, true_and, false_and, and_true, and_false, and_self, if_true, if_false, eq_self, Nat.reduceEqDiff, reduceIte]
            obtain ⟨z1, z2, z3, z4, z5, z6, z7, z8⟩ := y2
            exact ⟨z1, z2, z3, z4, z5, z3, z2, z8⟩
          · unfold TK at y3 ⊢
            simp only [up_eq, true_and, false_and, and_true, and_false, and_self, if_true, if_false, eq_self, Nat.reduceEqDiff, reduceIte]
            exact y3
        have e47 : (up (up S 53 0 (S 50 0)) 54 0 (S 49 0)) 47 0 = S 47 0 := by simp only [up_eq, true_and, false_and, and_true, and_false, and_self, if_true, if_false, eq_self, Nat.reduceEqDiff, reduceIte]
        refine t_next c2 tS (fun z h' v' c' f' t' b1 b2 b3 b4 => ?_) (fun z h' v' c' w' => ?_)
        · rw [← tName_e ns] at z t' b1 b3
          rw [e47] at b1 b3
          rw [Kt_0, sX1_name_40, sX1_name_41]
          have tx : vTx v' a = vTx v1 a := by
            rw [(f'.cc (hK_lt ka2 (by decide)) (fun z => by rcases z with z | z <;> omega)).2.2.2, ta2]
          refine q1 ns z h' v' a c' (f12.trans f') t' ⟨f'.kk ka2 (by decide), by rw [tx, f53]; exact e3, by rw [tx]; exact e4, by rw [b4 14 rfl, f54]; exact e14⟩ (by omega) (by omega) (by omega)
        · rw [← tName_e ns] at z w'
          rw [Kt_x]
          refine q2 ns z h' v' c' (w'.pre f12 (by omega) (by omega) (by omega))
    · rw [Kt_x]
      exact q3 (fun z => p (iff.mpr z)) h' v' c' (w'.pre fq (by omega) (by omega) (by omega))
  rw [eX1_name, sX1_name_0, sX1_name_1, sX1_name_2 kr, c.rr tk rfl, sX1_name_5]
  rcases t.1.2.2.2.2 with ⟨e0, e1⟩ | ⟨e0, a, e1, e2, e3, e4⟩
  · rw [if_pos e1, sX1_name_19]
    have := key (S 50 0 ≠ 0 ∧ ¬ tKw (S 50 0) = true) h v tIsN_iff.symm c Fw.refl (by omega) (by omega) (by omega)
    unfold bI at this
    rw [if_neg (fun z => z.1 e0)] at this
    exact this
  · rw [e1, if_neg (by simp), sX1_name_8, sX1_name_9 kr]
    refine t_isKey c t (fun h1 v1 c1 f1 b1 b2 b3 => ?_)
    have := key (S 50 0 ≠ 0 ∧ ¬ tKw (S 50 0) = true) h1 v1 tIsN_iff.symm c1 f1 b1 b2 b3
    rw [Kt_v, sX1_name_12, i_0]
    unfold bI at this
    by_cases z : tKw (S 50 0) = true
    · rw [if_neg (fun y => y.2 z)] at this
      rw [if_pos (bI_1.mpr ⟨e0, z⟩), sX1_name_19]
      exact this
    · rw [if_pos ⟨e0, z⟩] at this
      rw [if_neg (fun y => z (bI_1.mp y).2), sX1_name_15, sX1_name_16]
      exact this
end NMS
