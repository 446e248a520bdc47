/-! COMPONENT, 151: walks: a method by chance (drawn 291, call 254, close 255) *-/
/-- the kind that is drawn: of the known ones the a-th -/
def dK (kf : Int → Int) : Nat → Int → Int → Int
  | 0, _, _ => -1
  | d + 1, i, a => if a ≤ 0 then -1 else if kf i = -1 then dK kf d (i + 1) a else if a - 1 = 0 then kf i else dK kf d (i + 1) (a - 1)
section WDR
variable {R : Nat → Nat} {A : Nat → Int → Nat} {T : Nat → Nat} {w p0 m : Int} {U S S' : tSt} {c l : Int → Int} {wk r : Nat} {P : Int → Prop} {v0 v v' : vT} {h : am_H} {Q : am_O → am_H → Prop} {l3 l4 : Option am_V}
theorem tDT_0 {x : Int} : ∀ (d : Nat) (i a : Int) (S : tSt), a ≤ 0 → tDT U w x d i a S = S
  | 0, _, _, _, _ => rfl
  | d + 1, i, a, S, h => by
    unfold tDT
    by_cases p : tKc U w x i = -1
    · rw [if_pos p, if_neg (fun z => z.2.1 p)]
      exact tDT_0 d _ _ S (by omega)
    · rw [if_neg p, if_neg (fun z => by omega)]
      exact tDT_0 d _ _ S (by omega)
theorem tDT_k {x : Int} : ∀ (d : Nat) (i a : Int) (S : tSt), tDT U w x d i a S = if dK (tKc U w x) d i a = -1 ∨ S 66 0 = 1 then S else tThrw (dK (tKc U w x) d i a) S
  | 0, _, _, _ => by
    unfold tDT dK
    rw [if_pos (Or.inl rfl)]
  | d + 1, i, a, S => by
    by_cases a0 : a ≤ 0
    · rw [tDT_0 _ _ _ _ a0]
      unfold dK
      rw [if_pos a0, if_pos (Or.inl rfl)]
    · unfold tDT dK
      rw [if_neg a0]
      by_cases p : tKc U w x i = -1
      · rw [if_pos p, if_pos p, if_neg (fun z => z.2.1 p), tDT_k d]
        rw [Int.sub_zero]
      · rw [if_neg p, if_neg p]
        by_cases a1 : a - 1 = 0
        · rw [if_pos a1, tDT_0 _ _ _ _ (by omega)]
          by_cases q : S 66 0 = 1
          · rw [if_neg (fun z => z.2.2 q), if_pos (Or.inr q)]
          · rw [if_pos ⟨a1, p, q⟩, if_neg (fun z => z.elim p q)]
        · rw [if_neg a1, if_neg (fun z => a1 z.1), tDT_k d]
theorem dK_b {kf : Int → Int} {n3 : Int} (hb : ∀ i, -1 ≤ kf i ∧ kf i < n3) (h3 : 0 ≤ n3) : ∀ (d : Nat) (i a : Int), -1 ≤ dK kf d i a ∧ dK kf d i a < n3
  | 0, _, _ => by unfold dK; omega
  | d + 1, i, a => by
    unfold dK
    split
    · omega
    · split
      · exact dK_b hb h3 d _ _
      · split
        · exact hb i
        · exact dK_b hb h3 d _ _
theorem tDrT_k {k : Int} : tDrT U w k S = if dK (tKc U w (w * 12 + k)) (U 15 (w * 12 + k)).toNat 0 (dV (dZ (lI (S 64 0))) (1 + tKn U w (w * 12 + k))).toInt = -1 ∨ S 66 0 = 1 then tDrwS S else tThrw (dK (tKc U w (w * 12 + k)) (U 15 (w * 12 + k)).toNat 0 (dV (dZ (lI (S 64 0))) (1 + tKn U w (w * 12 + k))).toInt) (tDrwS S) := by
  unfold tDrT
  rw [tDT_k]
  have e : tDrwS S 66 0 = S 66 0 := by unfold tDrwS; simp only [up_eq, true_and, false_and, and_true, and_false, and_self, if_true, if_false, eq_self, Nat.reduceEqDiff, reduceIte]
  rw [e]
/-- how many are known: the loop -/
theorem dr_cnt {am ln : Nat} {n : Int} {kf pf : Int → Int} (cr : CR h v) (km : hK v.1 am = 18) (r7 : hR v.1 am 7 = some ln) (nl : NL v (A 0) ln n kf pf) (n4 : n ≤ 4) : ∀ (d : Nat) (j a : Int), 0 ≤ j → j + d = n → (0 ≤ a ∧ a ≤ j) →
    (Rn r 291 4 [some (vR (some wk)), some (vR (some am)), some (vI (iI a)), some (vI (iI j)), l4] [] h Q ↔ Rn r 291 46 [some (vR (some wk)), some (vR (some am)), some (vI (iI (tFor (fun i a => a + (if kf i = -1 then 0 else 1)) d j a))), some (vI (iI n)), l4] [] h Q) := by
  obtain ⟨kl, n0, sz, gt⟩ := nl.raw cr
  have kmh := cr.kk km (by decide)
  have r7h : hR h am 7 = some ln := by rw [cr.rr km rfl]; exact r7
  intro d
  induction d with
  | zero =>
    intro j a h0 h1 ha
    rw [sX5_drawn_4, sX5_drawn_5, sX5_drawn_6 kmh, r7h, sX5_drawn_9 kl, sz, Kt_v, sX5_drawn_12, if_pos (by rw [iI_le (by omega) (by omega) (by omega) (by omega)]; omega), tFor, show j = n by omega]
  | succ d ih =>
    intro j a h0 h1 ha
    obtain ⟨e, ge, ke, re, _⟩ := gt j h0 (by omega)
    rw [sX5_drawn_4, sX5_drawn_5, sX5_drawn_6 kmh, r7h, sX5_drawn_9 kl, sz, Kt_v, sX5_drawn_12, if_neg (by rw [iI_le (by omega) (by omega) (by omega) (by omega)]; omega), sX5_drawn_15, sX5_drawn_16, sX5_drawn_17 kmh, r7h, sX5_drawn_20, sX5_drawn_21 kl, ge, Kt_v, sX5_drawn_24 (by rw [ke]; decide), sX5_drawn_27 ke, re, sX5_drawn_30, tFor]
    by_cases q : kf j = -1
    · rw [q, optA_n, if_neg (fun z => z rfl), sX5_drawn_33, sX5_drawn_34, sX5_drawn_38, i_0, iI_add, sX5_drawn_39, sX5_drawn_40, i_1, iI_add, sX5_drawn_43, if_pos rfl]
      exact ih (j + 1) (a + 0) (by omega) (by omega) (by omega)
    · rw [optA_s q, if_pos (by simp), sX5_drawn_37, sX5_drawn_38, i_1, iI_add, sX5_drawn_39, sX5_drawn_40, i_1, iI_add, sX5_drawn_43, if_neg q]
      exact ih (j + 1) (a + 1) (by omega) (by omega) (by omega)
/-- the one drawn: the loop -/
theorem dr_one {am ln : Nat} {n : Int} {kf pf : Int → Int} {l2 : Option am_V} (cr : CR h v) (km : hK v.1 am = 18) (r7 : hR v.1 am 7 = some ln) (nl : NL v (A 0) ln n kf pf) (n4 : n ≤ 4) : ∀ (d : Nat) (j a : Int), 0 ≤ j → j + d = n → (0 ≤ a ∧ a ≤ 100) →
    (Rn r 291 57 [some (vR (some wk)), some (vR (some am)), l2, some (vI (iI a)), some (vI (iI j))] [] h Q ↔ Q (Sum.inl (some (vR (optA (A 0) (dK kf d j a))))) h) := by
  obtain ⟨kl, n0, sz, gt⟩ := nl.raw cr
  have kmh := cr.kk km (by decide)
  have r7h : hR h am 7 = some ln := by rw [cr.rr km rfl]; exact r7
  intro d
  induction d with
  | zero =>
    intro j a h0 h1 ha
    rw [sX5_drawn_57, sX5_drawn_59, sX5_drawn_60 kmh, r7h, sX5_drawn_63 kl, sz, Kt_v, sX5_drawn_66, if_pos (by rw [iI_le (by omega) (by omega) (by omega) (by omega)]; omega), sX5_drawn_120, sX5_drawn_121]
    exact Iff.rfl
  | succ d ih =>
    intro j a h0 h1 ha
    obtain ⟨e, ge, ke, re, _⟩ := gt j h0 (by omega)
    rw [sX5_drawn_57, sX5_drawn_59, sX5_drawn_60 kmh, r7h, sX5_drawn_63 kl, sz, Kt_v, sX5_drawn_66, if_neg (by rw [iI_le (by omega) (by omega) (by omega) (by omega)]; omega), sX5_drawn_69, sX5_drawn_70, i_0]
    unfold dK
    by_cases a0 : a ≤ 0
    · rw [if_pos ((iI_le (by omega) (by omega) (by omega) (by omega)).mpr a0), if_pos a0, sX5_drawn_120, sX5_drawn_121]
      exact Iff.rfl
    · rw [if_neg (fun z => a0 ((iI_le (by omega) (by omega) (by omega) (by omega)).mp z)), if_neg a0, sX5_drawn_73, sX5_drawn_74 kmh, r7h, sX5_drawn_77, sX5_drawn_79 kl, ge, Kt_v, sX5_drawn_82 (by rw [ke]; decide), sX5_drawn_85 ke, re, sX5_drawn_88]
      by_cases q : kf j = -1
      · rw [q, optA_n, if_pos rfl, if_pos rfl, sX5_drawn_114, i_1, iI_add, sX5_drawn_117]
        exact ih (j + 1) a (by omega) (by omega) ha
      · rw [optA_s q, if_neg (by simp), if_neg q, sX5_drawn_91, i_m1, iI_add, show a + -1 = a - 1 by omega, sX5_drawn_94, sX5_drawn_95, i_0]
        by_cases a1 : a - 1 = 0
        · rw [if_neg (fun z => z (by rw [a1])), if_pos a1, sX5_drawn_98, sX5_drawn_99 kmh, r7h, sX5_drawn_102, sX5_drawn_104 kl, ge, Kt_v, sX5_drawn_107 (by rw [ke]; decide), sX5_drawn_110 ke, re, sX5_drawn_113]
        · rw [if_pos (fun z => a1 ((iI_eq (by omega) (by omega) (by omega) (by omega)).mp z)), if_neg a1, sX5_drawn_114, i_1, iI_add, sX5_drawn_117]
          exact ih (j + 1) (a - 1) (by omega) (by omega) (by omega)
theorem c_drawn (qv : QV U) (cr : CR h v) (x : WV R A T w p0 U c l wk P v0 v S) (m0 : 0 ≤ m) (m1 : m < U 9 w) (q : ∀ h' v', CR h' v' → WV R A T w p0 U c l wk P v0 v' (tDrwS S) → Q (Sum.inl (some (vR (optA (A 0) (dK (tKc U w (w * 12 + m)) (U 15 (w * 12 + m)).toNat 0 (dV (dZ (lI (S 64 0))) (1 + tKn U w (w * 12 + m))).toInt))))) h') : Cl r 291 [vR (some wk), vR (some (A 1 m))] h Q := by
  have gx := x.gx
  have kw := x.kw
  obtain ⟨km, _, _, i3, _, _, _, ⟨ln, r7, _, nl⟩, _⟩ := gx.2.2.1.2.2.2 m m0 m1
  have b15 := QV_b qv (f := 15) (c := 4) rfl rfl rfl (w * 12 + m)
  have nb := tKn_b (U := U) (w := w) (k' := m) b15
  rw [eX5_drawn, sX5_drawn_0, sX5_drawn_1, sX5_drawn_2, sX5_drawn_3, i_0, dr_cnt (j := 0) (a := 0) cr km r7 nl b15.2 (U 15 (w * 12 + m)).toNat (by omega) (by omega) (by omega)]
  rw [show tFor (fun i a => a + (if kO U w (U 16 (4 * (w * 12 + m) + i)) (U 17 (4 * (w * 12 + m) + i)) = -1 then 0 else 1)) (U 15 (w * 12 + m)).toNat 0 0 = tKn U w (w * 12 + m) from rfl, sX5_drawn_46, sX5_drawn_47, sX5_drawn_48, sX5_drawn_49, i_1, iI_add, sX5_drawn_50 (cr.kk kw (by decide))]
  refine wk_draw cr x (by omega) (fun h1 v1 c1 x1 => ?_)
  obtain ⟨y, hy, y0, y1⟩ := dV_b (z := dZ (lI (S 64 0))) (n := 1 + tKn U w (w * 12 + m)) (by omega)
  have := q h1 v1 c1 x1
  rw [hy, iI_toInt (by omega) (by omega)] at this
  rw [hy, Kt_v, sX5_drawn_53, sX5_drawn_54, sX5_drawn_55]
  obtain ⟨km1, _, _, _, _, _, _, ⟨ln1, r71, _, nl1⟩, _⟩ := x1.gx.2.2.1.2.2.2 m m0 m1
  rw [i_0, dr_one c1 km1 r71 nl1 b15.2 (U 15 (w * 12 + m)).toNat 0 y (by omega) (by omega) (by omega)]
  exact this
/-- something is thrown -/
theorem WV_thr {k : Int} (x : WV R A T w p0 U c l wk P v0 v S) (h68 : S 68 0 = 0) (k0 : 0 ≤ k) (k1 : k < U 3 w) (h3 : U 3 w ≤ 16) : WV R A T w p0 U c l wk P v0 (vpR (vpI v wk 0 1) wk 1 (some (A 0 k))) (tThrw k S) := by
  obtain ⟨ww, wu⟩ := x
  obtain ⟨⟨kw, i0, j3, i4⟩, t1, t2, b65, b66, b74, b67, b68⟩ := id ww
  refine ⟨⟨⟨kw, ?_, ?_, ?_⟩, fun _ => ⟨?_, ?_⟩, fun z => ?_, ?_, ?_, ?_, ?_, ?_⟩, WU_wk (v' := vpR (vpI v wk 0 1) wk 1 (some (A 0 k))) wu kw (fwR (fwI fw0)) rfl rfl ?_⟩
  · rw [vpR_1, hI_putR, vpI_1, hI_putI, if_pos ⟨rfl, rfl⟩]
    unfold hwO tThrw; simp only [up_eq, true_and, false_and, and_true, and_false, and_self, if_true, if_false, eq_self, Nat.reduceEqDiff, reduceIte]; rw [h68]; rfl
  · unfold tThrw; simp only [up_eq, true_and, false_and, and_true, and_false, and_self, if_true, if_false, eq_self, Nat.reduceEqDiff, reduceIte]; exact j3
  · rw [vpR_1, hI_putR, vpI_1, hI_putI, if_neg (by omega)]
    unfold tThrw; simp only [up_eq, true_and, false_and, and_true, and_false, and_self, if_true, if_false, eq_self, Nat.reduceEqDiff, reduceIte]; exact i4
  · rw [vpR_1, hR_putR, if_pos ⟨rfl, rfl⟩]
    unfold tThrw; simp only [up_eq, true_and, false_and, and_true, and_false, and_self, if_true, if_false, eq_self, Nat.reduceEqDiff, reduceIte]
  · unfold tThrw; simp only [up_eq, true_and, false_and, and_true, and_false, and_self, if_true, if_false, eq_self, Nat.reduceEqDiff, reduceIte]; exact ⟨k0, k1⟩
  · unfold tThrw at z; simp only [up_eq, true_and, false_and, and_true, and_false, and_self, if_true, if_false, eq_self, Nat.reduceEqDiff, reduceIte] at z; omega
  · unfold tThrw; simp only [up_eq, true_and, false_and, and_true, and_false, and_self, if_true, if_false, eq_self, Nat.reduceEqDiff, reduceIte]; exact b65
  · unfold tThrw; simp only [up_eq, true_and, false_and, and_true, and_false, and_self, if_true, if_false, eq_self, Nat.reduceEqDiff, reduceIte]; omega
  · unfold tThrw; simp only [up_eq, true_and, false_and, and_true, and_false, and_self, if_true, if_false, eq_self, Nat.reduceEqDiff, reduceIte]; exact b74
  · unfold tThrw; simp only [up_eq, true_and, false_and, and_true, and_false, and_self, if_true, if_false, eq_self, Nat.reduceEqDiff, reduceIte]; omega
  · unfold tThrw; simp only [up_eq, true_and, false_and, and_true, and_false, and_self, if_true, if_false, eq_self, Nat.reduceEqDiff, reduceIte]; exact b68
  · unfold tThrw; rw [up_n (by decide), up_n (by decide)]
theorem CR_thr {k : Nat} (cr : CR h v) (kw : hK v.1 wk = 14) : CR (putR (putI h wk 0 1) wk 1 (some k)) (vpR (vpI v wk 0 1) wk 1 (some k)) := CR_pR (n := 14) (CR_pI cr kw rfl) kw rfl
theorem c_call1 (qv : QV U) (qw : QW w U) (cr : CR h v) (x : WV R A T w p0 U c l wk P v0 v S) (h68 : S 68 0 = 0) (h66 : S 66 0 = 0) (m0 : 0 ≤ m) (m1 : m < U 9 w) (q : ∀ h' v', CR h' v' → WV R A T w p0 U c l wk P v0 v' (tDrT U w m S) → Q (Sum.inl none) h') : Cl r 254 [vR (some wk), vR (some (A 1 m))] h Q := by
  have kw := x.kw
  have b3 := qw.1
  rw [eX5_call, sX5_call_0, sX5_call_1, sX5_call_2 (cr.kk kw (by decide))]
  refine c_drawn qv cr x m0 m1 (fun h1 v1 c1 x1 => ?_)
  have kb := dK_b (kf := tKc U w (w * 12 + m)) (n3 := U 3 w) (fun i => kO_b b3) (by omega) (U 15 (w * 12 + m)).toNat 0 (dV (dZ (lI (S 64 0))) (1 + tKn U w (w * 12 + m))).toInt
  rw [tDrT_k] at q
  generalize dK (tKc U w (w * 12 + m)) (U 15 (w * 12 + m)).toNat 0 (dV (dZ (lI (S 64 0))) (1 + tKn U w (w * 12 + m))).toInt = K at *
  have kw1 := x1.kw
  rw [Kt_v, sX5_call_5, sX5_call_6, sX5_call_7]
  by_cases z : K = -1
  · rw [z, optA_n, if_pos rfl, sX5_call_20]
    rw [if_pos (Or.inl z)] at q
    exact q h1 v1 c1 x1
  · rw [if_neg (fun y => y.elim z (by omega))] at q
    rw [optA_s z, if_neg (by simp), sX5_call_10, sX5_call_11, sX5_call_12 (c1.kk kw1 (by decide)), sX5_call_15, sX5_call_16, sX5_call_17 (by rw [hK_putI]; exact c1.kk kw1 (by decide)), sX5_call_20]
    exact q _ _ (CR_thr c1 kw1) (WV_thr x1 (by unfold tDrwS; simp only [up_eq, true_and, false_and, and_true, and_false, and_self, if_true, if_false, eq_self, Nat.reduceEqDiff, reduceIte]; exact h68) (by omega) kb.2 b3.2)
theorem c_close1 (qv : QV U) (qw : QW w U) (cr : CR h v) (x : WV R A T w p0 U c l wk P v0 v S) (h68 : S 68 0 = 0) (m0 : 0 ≤ m) (m1 : m < U 9 w) (q : ∀ h' v', CR h' v' → WV R A T w p0 U c l wk P v0 v' (tDrT U w m S) → Q (Sum.inl none) h') : Cl r 255 [vR (some wk), vR (some (A 1 m))] h Q := by
  have kw := x.kw
  have b3 := qw.1
  rw [eX5_close, sX5_close_0, sX5_close_1, sX5_close_2 (cr.kk kw (by decide))]
  refine c_drawn qv cr x m0 m1 (fun h1 v1 c1 x1 => ?_)
  have kb := dK_b (kf := tKc U w (w * 12 + m)) (n3 := U 3 w) (fun i => kO_b b3) (by omega) (U 15 (w * 12 + m)).toNat 0 (dV (dZ (lI (S 64 0))) (1 + tKn U w (w * 12 + m))).toInt
  rw [tDrT_k] at q
  generalize dK (tKc U w (w * 12 + m)) (U 15 (w * 12 + m)).toNat 0 (dV (dZ (lI (S 64 0))) (1 + tKn U w (w * 12 + m))).toInt = K at *
  have kw1 := x1.kw
  have e66 : tDrwS S 66 0 = S 66 0 := by unfold tDrwS; simp only [up_eq, true_and, false_and, and_true, and_false, and_self, if_true, if_false, eq_self, Nat.reduceEqDiff, reduceIte]
  have e68 : tDrwS S 68 0 = S 68 0 := by unfold tDrwS; simp only [up_eq, true_and, false_and, and_true, and_false, and_self, if_true, if_false, eq_self, Nat.reduceEqDiff, reduceIte]
  rw [Kt_v, sX5_close_5, sX5_close_6, sX5_close_7]
  by_cases z : K = -1
  · rw [z, optA_n, if_pos rfl, sX5_close_28]
    rw [if_pos (Or.inl z)] at q
    exact q h1 v1 c1 x1
  · rw [optA_s z, if_neg (by simp), sX5_close_10, sX5_close_11 (c1.kk kw1 (by decide)), c1.ii kw1 rfl, sX5_close_14, sX5_close_15, i_1]
    by_cases y : S 66 0 = 1
    · rw [if_pos (Or.inr y)] at q
      rw [if_pos ((how_eq x1.1 (by omega)).mpr ((hwO_1 x1.1).mpr (by omega))), sX5_close_28]
      exact q h1 v1 c1 x1
    · rw [if_neg (fun t => t.elim z y)] at q
      rw [if_neg (fun t => y (by have := (hwO_1 x1.1).mp ((how_eq x1.1 (by omega)).mp t); omega)), sX5_close_18, sX5_close_19, sX5_close_20 (c1.kk kw1 (by decide)), sX5_close_23, sX5_close_24, sX5_close_25 (by rw [hK_putI]; exact c1.kk kw1 (by decide)), sX5_close_28]
      exact q _ _ (CR_thr c1 kw1) (WV_thr x1 (by omega) (by omega) kb.2 b3.2)
end WDR
