/-! COMPONENT, 154: walks: do, return, set, throw *-/
def fK (kf : Int → Int) : Nat → Int
  | 0 => -1
  | d + 1 => if fK kf d = -1 then kf d else fK kf d
section WS2
variable {R : Nat → Nat} {A : Nat → Int → Nat} {T : Nat → Nat} {w p0 n s b d : Int} {g : Int → Int} {U S S' S1 S0 : tSt} {c l : Int → Int} {wk r : Nat} {P P0 : Int → Prop} {v0 v v' : vT} {h : am_H} {Q : am_O → am_H → Prop} {l3 l4 : Option am_V}
theorem fK_st {kf : Int → Int} {j : Nat} (h : fK kf j ≠ -1) : ∀ k : Nat, fK kf (j + k) = fK kf j
  | 0 => rfl
  | k + 1 => by
    show (if fK kf (j + k) = -1 then kf ((j + k : Nat) : Int) else fK kf (j + k)) = _
    rw [fK_st h k, if_neg h]
theorem fK_b {kf : Int → Int} {n3 : Int} (h3 : 0 ≤ n3) (hb : ∀ i, -1 ≤ kf i ∧ kf i < n3) : ∀ d : Nat, -1 ≤ fK kf d ∧ fK kf d < n3
  | 0 => by unfold fK; omega
  | d + 1 => by
    unfold fK
    split
    · exact hb d
    · exact fK_b h3 hb d
theorem tSv_k {cc : Int} : ∀ (d : Nat) (S : tSt), tSv U w cc d S = if fK (cK U w cc) d = -1 then S else up S 74 cc (fK (cK U w cc) d)
  | 0, S => rfl
  | d + 1, S => by
    unfold tSv fK
    rw [tSv_k d]
    by_cases z : cK U w cc d = -1
    · rw [if_pos z]
      by_cases y : fK (cK U w cc) d = -1
      · rw [if_pos y, if_pos y, if_pos z]
      · rw [if_neg y, if_neg y, if_neg y]
    · rw [if_neg z]
      by_cases y : fK (cK U w cc) d = -1
      · rw [if_pos y, if_pos y, if_neg z]
      · rw [if_neg y, if_neg y, if_neg y, up_up]
/-- Catch.first -/
theorem c_fiL {cc ln : Nat} {kf pf : Int → Int} (cr : CR h v) (kc : hK v.1 cc = 22) (r1 : hR v.1 cc 1 = some ln) (nl : NL v (A 0) ln n kf pf) (n4 : n ≤ 4) : ∀ (d j : Nat), (j : Int) + d = n → fK kf j = -1 →
    (Rn r 252 2 [some (vR (some cc)), some (vI (iI j))] [] h Q ↔ Q (Sum.inl (some (vR (optA (A 0) (fK kf n.toNat))))) h) := by
  obtain ⟨kl, n0, sz, gt⟩ := nl.raw cr
  have kch := cr.kk kc (by decide)
  have r1h : hR h cc 1 = some ln := by rw [cr.rr kc rfl]; exact r1
  intro d
  induction d with
  | zero =>
    intro j hj hf
    rw [sX22_first_2, sX22_first_3, sX22_first_4 kch, r1h, sX22_first_7 kl, sz, Kt_v, sX22_first_10, if_pos (by rw [iI_le (by omega) (by omega) (by omega) (by omega)]; omega), sX22_first_51, sX22_first_52, show n.toNat = j by omega, hf]
    exact Iff.rfl
  | succ d ih =>
    intro j hj hf
    obtain ⟨e, ge, ke, re, _⟩ := gt j (by omega) (by omega)
    rw [sX22_first_2, sX22_first_3, sX22_first_4 kch, r1h, sX22_first_7 kl, sz, Kt_v, sX22_first_10, if_neg (by rw [iI_le (by omega) (by omega) (by omega) (by omega)]; omega), sX22_first_13, sX22_first_14 kch, r1h, sX22_first_17, sX22_first_18 kl, ge, Kt_v, sX22_first_21 (by rw [ke]; decide), sX22_first_24 ke, re, sX22_first_27]
    have e1 : fK kf (j + 1) = kf j := by
      unfold fK
      rw [if_pos hf]
    by_cases q : kf j = -1
    · rw [q, optA_n, if_pos rfl, sX22_first_45, i_1, iI_add, sX22_first_48]
      exact ih (j + 1) (by omega) (by rw [e1]; exact q)
    · have e2 : fK kf n.toNat = kf j := by
        rw [show n.toNat = j + 1 + d by omega, fK_st (by rw [e1]; exact q), e1]
      rw [optA_s q, if_neg (by simp), sX22_first_30, sX22_first_31 kch, r1h, sX22_first_34, sX22_first_35 kl, ge, Kt_v, sX22_first_38 (by rw [ke]; decide), sX22_first_41 ke, re, sX22_first_44, e2]
theorem c_first {cc ln : Nat} {kf pf : Int → Int} (cr : CR h v) (kc : hK v.1 cc = 22) (r1 : hR v.1 cc 1 = some ln) (nl : NL v (A 0) ln n kf pf) (n4 : n ≤ 4) : Cl r 252 [vR (some cc)] h Q ↔ Q (Sum.inl (some (vR (optA (A 0) (fK kf n.toNat))))) h := by
  have n0 := nl.2.2.1
  rw [eX22_first, sX22_first_0, sX22_first_1, i_0]
  exact c_fiL cr kc r1 nl n4 n.toNat 0 (by omega) rfl
/-- what a catch caught -/
theorem WV_is {cc k : Int} (x : WV R A T w p0 U c l wk P v0 v S) (hc : As w U (cc / 4) ∧ cc % 4 < U 33 (cc / 4)) (k0 : 0 ≤ k) (k1 : k < U 3 w) (h3 : U 3 w ≤ 16) : WV R A T w p0 U c l wk (fun i => P i ∨ i = cc) v0 (vpR v (A 4 cc) 5 (some (A 0 k))) (up S 74 cc k) := by
  obtain ⟨⟨⟨kw, i0, j3, i4⟩, t1, t2, b65, b66, b74, b67, b68⟩, ju, u1, u2, u3, u4, u5⟩ := x
  have kc := (ju.1.2.2.2.2.2.2.2.1 cc hc.1 hc.2).1.1
  have inj := ju.1.2.2.2.2.2.2.2.2
  have f : Fw (fun a k => a = A 4 cc ∧ k = 5) v (vpR v (A 4 cc) 5 (some (A 0 k))) := Fw.refl.pR (Or.inr ⟨rfl, rfl⟩)
  have wr : ∀ k', hR (vpR v (A 4 cc) 5 (some (A 0 k))).1 wk k' = hR v.1 wk k' := fun k' => (f.ff (k := k') (hK_lt kw (by decide)) (fun y => by rw [y.1, kc] at kw; omega)).2.2
  have e : ∀ f, f ≠ 74 → up S 74 cc k f = S f := fun f hf => up_n hf
  have c0 : hK v0.1 (A 4 cc) = 22 := by
    have lt : A 4 cc < hN v0.1 := by
      have := hK_lt kc (by decide)
      omega
    rw [← (u3.2.2 _ lt).1]
    exact kc
  refine ⟨⟨⟨kw, ?_, ?_, ?_⟩, ?_, ?_, ?_, ?_, fun i => ?_, ?_, ?_⟩, JU_fr ju f (fun a k y _ => Or.inr (Or.inr (Or.inr (Or.inl ⟨by rw [y.1]; exact kc, y.2⟩)))), fun i hi => ?_, fun i hi => ?_, u3.trans (f.mono (fun a k y => Or.inr ⟨by rw [y.1]; exact c0, y.2⟩)), u4, u5⟩
  · unfold hwO
    rw [e 66 (by decide), e 68 (by decide)]
    exact i0
  · rw [e 64 (by decide)]; exact j3
  · rw [e 65 (by decide)]; exact i4
  · rw [e 66 (by decide), e 67 (by decide), wr 1]; exact t1
  · rw [e 66 (by decide), e 67 (by decide), wr 2]; exact t2
  · rw [e 65 (by decide)]; exact b65
  · rw [e 66 (by decide)]; exact b66
  · rw [up_eq]
    split
    · omega
    · exact b74 i
  · rw [e 67 (by decide)]; exact b67
  · rw [e 68 (by decide)]; exact b68
  · by_cases z : i = cc
    · rw [z, up_s, vpR_1, hR_putR, if_pos ⟨rfl, rfl⟩]
      exact ⟨rfl, k0, k1⟩
    · have pi := hi.resolve_right z
      rw [up_eq, if_neg (fun y => z y.2), vpR_1, hR_putR, if_neg (fun y => z (inj i cc (u2 i pi).1 (u2 i pi).2 hc.1 hc.2 y.1))]
      exact u1 i pi
  · rcases hi with y | y
    · exact u2 i y
    · rw [y]; exact hc
theorem tPO_anc (pw : PW w U) {y : Int} : ∀ (d : Nat) (b : Int) (p : Bool), (b = -1 ∨ Ab w U b) → (tPO U y d b p).1 ≠ -1 → ∃ k, Ab w U k ∧ anc U b k ∧ U 41 k = 6 ∧ (tPO U y d b p).1 = 4 * U 42 k + U 43 k
  | 0, _, _, _, h => absurd rfl h
  | d + 1, b, p, hb, h => by
    unfold tPO at h ⊢
    by_cases z : b = -1
    · rw [if_pos z] at h; exact absurd rfl h
    · rw [if_neg z] at h ⊢
      have hb := hb.resolve_left z
      by_cases y6 : U 41 b = 6 ∧ U 35 (4 * U 42 b + U 43 b) = y
      · rw [if_pos y6] at h ⊢
        exact ⟨b, hb, anc_rf, y6.1, rfl⟩
      · rw [if_neg y6] at h ⊢
        have pb := (pw.2 b hb).1
        by_cases z2 : U 41 b = 0
        · have o : U 42 b = -1 := by
            rcases pb with t | t
            · exact t.2
            · omega
          rw [if_pos o] at h ⊢
          have := tPO_anc pw d (-1) _ (Or.inl rfl) h
          obtain ⟨k, k1, ⟨m, k2⟩, k3, k4⟩ := this
          exfalso
          cases d with
          | zero => exact h rfl
          | succ d =>
            unfold tPO at h
            rw [if_pos rfl] at h
            exact h rfl
        · by_cases o : U 42 b = -1
          · rw [if_pos o] at h
            exfalso
            cases d with
            | zero => exact h rfl
            | succ d =>
              unfold tPO at h
              rw [if_pos rfl] at h
              exact h rfl
          · rw [if_neg o] at h ⊢
            obtain ⟨k, k1, ⟨m, k2⟩, k3, k4⟩ := tPO_anc pw d _ _ (Or.inr (par_ab pw hb z2).2) h
            exact ⟨k, k1, ⟨m + 1, z2, k2⟩, k3, k4⟩
theorem pO_P (pw : PW w U) (hb : Ab w U b) {y : Int} (pa : PAn w U P b) (h : (pO U y b).1 ≠ -1) : P (pO U y b).1 := by
  obtain ⟨k, k1, k2, k3, k4⟩ := tPO_anc pw _ b false (Or.inr hb) h
  show P (tPO U y (b + 2).toNat b false).1
  rw [k4]
  exact pa k k1 k2 k3
theorem sw_30 (j : JP w g U c l) (hs : As w U s) (e : U 20 s = 0 ∨ U 20 s = 8) : SWN r 195 R A T w p0 g U c l wk v0 s := by
  intro h v S P n Q cr x hz pa q
  have kw := x.kw
  have f0 := (x.gx.fs hs).1
  obtain ⟨k1, k5, k6⟩ := f0 e
  obtain ⟨h66, h68, h69, hn⟩ := hz
  rw [eX14_walk, sX14_walk_0, sX14_walk_1 (cr.kk k1 (by decide)), cr.ii k1 rfl, k5, sX14_walk_4, sX14_walk_6, i_8]
  by_cases z : U 20 s = 8
  · have tb : tBeg U w s S = up S 66 0 3 := by
      unfold tBeg
      rw [if_neg (by omega), if_neg (by omega), if_neg (by omega), if_neg (by omega), if_neg (by omega), if_neg (by omega), if_pos z]
    rw [tb] at q
    rw [if_neg (fun t => t (by rw [z])), sX14_walk_9, sX14_walk_10, sX14_walk_11 (cr.kk kw (by decide)), sX14_walk_14, sX14_walk_48]
    refine q _ (vpI v wk 0 2) _ P (CR_pI cr kw rfl) ?_ (fun _ t => t) WGo.rf (Or.inr ⟨by simp only [up_eq, true_and, false_and, and_true, and_false, and_self, if_true, if_false, eq_self, Nat.reduceEqDiff, reduceIte]; exact h68, by simp only [up_eq, true_and, false_and, and_true, and_false, and_self, if_true, if_false, eq_self, Nat.reduceEqDiff, reduceIte]; exact h69, KF.cg (fun f hf => up_n (by omega))⟩)
    have b67 := x.1.2.2.2.2.2.2.1
    refine WV_set x (fwI fw0) rfl rfl (up_n (by decide)) (up_n (by decide)) (up_n (by decide)) ?_ ?_ ?_ ?_ rfl ?_ ?_ ?_
    · simp only [up_eq, true_and, false_and, and_true, and_false, and_self, if_true, if_false, eq_self, Nat.reduceEqDiff, reduceIte]; omega
    · simp only [up_eq, true_and, false_and, and_true, and_false, and_self, if_true, if_false, eq_self, Nat.reduceEqDiff, reduceIte]; exact b67
    · simp only [up_eq, true_and, false_and, and_true, and_false, and_self, if_true, if_false, eq_self, Nat.reduceEqDiff, reduceIte]; exact h68
    · rw [vpI_1, hI_putI, if_pos ⟨rfl, rfl⟩]
      unfold hwO
      simp only [up_eq, true_and, false_and, and_true, and_false, and_self, if_true, if_false, eq_self, Nat.reduceEqDiff, reduceIte]
      rw [h68]
      rfl
    · rw [vpI_1, hI_putI, if_neg (by omega)]
    · simp only [up_eq, true_and, false_and, and_true, and_false, and_self, if_true, if_false, eq_self, Nat.reduceEqDiff, reduceIte]; omega
    · simp only [up_eq, true_and, false_and, and_true, and_false, and_self, if_true, if_false, eq_self, Nat.reduceEqDiff, reduceIte]; omega
  · have tb : tBeg U w s S = S := by
      unfold tBeg
      rw [if_neg (by omega), if_neg (by omega), if_neg (by omega), if_neg (by omega), if_neg (by omega), if_neg (by omega), if_neg (by omega), if_neg (by omega)]
    rw [tb] at q
    rw [if_pos (fun t => z ((iI_eq (by omega) (by omega) (by omega) (by omega)).mp t)), sX14_walk_17, sX14_walk_18 (cr.kk k1 (by decide)), cr.rr k1 rfl, k6, sX14_walk_21, if_pos rfl, sX14_walk_48]
    exact q h v S P cr x (fun _ t => t) WGo.rf (Or.inr ⟨h68, h69, KF.rf⟩)
theorem sw_set (j : JP w g U c l) (hs : As w U s) (e : U 20 s = 3) : SWN r 195 R A T w p0 g U c l wk v0 s := by
  intro h v S P n Q cr x hz pa q
  have kw := x.kw
  have pw := j.pw
  have qw := j.2.1.2.2.1
  have f3 := (x.gx.fs hs).2.1
  obtain ⟨k1, k5, k6⟩ := f3 e
  obtain ⟨h66, h68, h69, hn⟩ := hz
  have tb : tBeg U w s S = (if (pO U (U 25 s) (U 22 s)).1 = -1 then up S 57 0 (b2 (pO U (U 25 s) (U 22 s)).2) else tSv U w (pO U (U 25 s) (U 22 s)).1 (U 37 (pO U (U 25 s) (U 22 s)).1).toNat (up S 57 0 (b2 (pO U (U 25 s) (U 22 s)).2))) := by
    unfold tBeg
    rw [if_neg (by omega), if_neg (by omega), if_pos e]
  rw [tb] at q
  have pP := pO_P (y := U 25 s) pw (pw.1 s hs) pa
  generalize pO U (U 25 s) (U 22 s) = pp at *
  have x7 : WV R A T w p0 U c l wk P v0 v (up S 57 0 (b2 pp.2)) := WV_cg x (fun f hf => up_n (by omega))
  have se7 : SE n S (up S 57 0 (b2 pp.2)) := Or.inr ⟨by rw [up_n (by decide)]; exact h68, by rw [up_n (by decide)]; exact h69, KF.cg (fun f hf => up_n (by omega))⟩
  rw [eX14_walk, sX14_walk_0, sX14_walk_1 (cr.kk k1 (by decide)), cr.ii k1 rfl, k5, sX14_walk_4, sX14_walk_6, i_8, if_pos (by decide), sX14_walk_17, sX14_walk_18 (cr.kk k1 (by decide)), cr.rr k1 rfl, k6, sX14_walk_21]
  by_cases z : pp.1 = -1
  · rw [if_pos z] at q
    rw [z, optA_n, if_pos rfl, sX14_walk_48]
    exact q h v _ P cr x7 (fun _ t => t) WGo.rf se7
  · rw [if_neg z, tSv_k] at q
    have hc := x.2.2.2.1 pp.1 (pP z)
    obtain ⟨kc, _, _, _, ln, r1, _, nl⟩ := (x.gx.2.2.2.2.2.2.2.1 pp.1 hc.1 hc.2).1
    have b37 := QV_b j.2.1.2.1 (f := 37) (c := 4) rfl rfl rfl pp.1
    have kb := fK_b (kf := cK U w pp.1) (n3 := U 3 w) (by have := qw.1; omega) (fun i => kO_b qw.1) (U 37 pp.1).toNat
    rw [optA_s z, if_neg (by simp), sX14_walk_24, sX14_walk_25 (cr.kk k1 (by decide)), cr.rr k1 rfl, k6, optA_s z, sX14_walk_28 (cr.kk kc (by decide)), c_first cr kc r1 nl b37.2, Kt_v, sX14_walk_31]
    by_cases y : fK (cK U w pp.1) (U 37 pp.1).toNat = -1
    · rw [if_pos y] at q
      rw [y, optA_n, if_pos rfl, sX14_walk_48]
      exact q h v _ P cr x7 (fun _ t => t) WGo.rf se7
    · rw [if_neg y] at q
      rw [optA_s y, if_neg (by simp), sX14_walk_34, sX14_walk_35 (cr.kk k1 (by decide)), cr.rr k1 rfl, k6, optA_s z, sX14_walk_38, sX14_walk_39 (cr.kk k1 (by decide)), cr.rr k1 rfl, k6, optA_s z, sX14_walk_42 (cr.kk kc (by decide)), c_first cr kc r1 nl b37.2, Kt_v, optA_s y, sX14_walk_45 (cr.kk kc (by decide)), sX14_walk_48]
      refine q _ _ _ _ (CR_pR (n := 22) cr kc rfl) (WV_is x7 hc (by omega) kb.2 qw.1.2) (fun _ t => Or.inl t) WGo.rf (Or.inr ⟨?_, ?_, KF.cg (fun f hf => ?_)⟩)
      · rw [up_n (by decide), up_n (by decide)]; exact h68
      · rw [up_n (by decide), up_n (by decide)]; exact h69
      · rw [up_n (by omega), up_n (by omega)]
theorem sw_32 (j : JP w g U c l) (hs : As w U s) (e : U 20 s = 2) : SWN r 197 R A T w p0 g U c l wk v0 s := by
  intro h v S P n Q cr x hz pa q
  have kw := x.kw
  have pw := j.pw
  have qw := j.2.1.2.2.1
  have f2 := (x.gx.fs hs).2.2.2.1
  obtain ⟨k1, k5, k6⟩ := f2 e
  obtain ⟨h66, h68, h69, hn⟩ := hz
  have tb : tBeg U w s S = (if (if (pO U (U 25 s) (U 22 s)).1 = -1 then kO U w (U 25 s) (U 26 s) else S 74 (pO U (U 25 s) (U 22 s)).1) = -1 then up S 57 0 (b2 (pO U (U 25 s) (U 22 s)).2) else tThrw (if (pO U (U 25 s) (U 22 s)).1 = -1 then kO U w (U 25 s) (U 26 s) else S 74 (pO U (U 25 s) (U 22 s)).1) (up S 57 0 (b2 (pO U (U 25 s) (U 22 s)).2))) := by
    unfold tBeg
    rw [if_neg (by omega), if_pos e]
  rw [tb] at q
  have pP := pO_P (y := U 25 s) pw (pw.1 s hs) pa
  have kb := kO_b (U := U) (w := w) (x := U 25 s) (a := U 26 s) qw.1
  generalize pO U (U 25 s) (U 22 s) = pp at *
  generalize kO U w (U 25 s) (U 26 s) = K at *
  have x7 : WV R A T w p0 U c l wk P v0 v (up S 57 0 (b2 pp.2)) := WV_cg x (fun f hf => up_n (by omega))
  have se7 : SE n S (up S 57 0 (b2 pp.2)) := Or.inr ⟨by rw [up_n (by decide)]; exact h68, by rw [up_n (by decide)]; exact h69, KF.cg (fun f hf => up_n (by omega))⟩
  have fin : ∀ k, 0 ≤ k → k < U 3 w → (∀ h' v' S' P', CR h' v' → WV R A T w p0 U c l wk P' v0 v' S' → (∀ k, P k → P' k) → WGo w U (tThrw k (up S 57 0 (b2 pp.2))) S' → SE n S S' → Q (Sum.inl none) h') → Rn r 197 22 [some (vR (some (A 2 s))), some (vR (some wk)), some (vR (some (A 0 k)))] [] h Q := fun k h0 h1 q => by
    rw [sX16_walk_22, sX16_walk_23, if_neg (by simp), sX16_walk_26, sX16_walk_27, sX16_walk_28 (cr.kk kw (by decide)), sX16_walk_31, sX16_walk_32, sX16_walk_33 (by rw [hK_putI]; exact cr.kk kw (by decide)), sX16_walk_36]
    refine q _ _ _ P (CR_thr cr kw) (WV_thr x7 (by rw [up_n (by decide)]; exact h68) h0 h1 qw.1.2) (fun _ t => t) WGo.rf (Or.inr ⟨?_, ?_, KF.cg (fun f hf => ?_)⟩)
    · rw [tThrw_o (by decide) (by decide), up_n (by decide)]; exact h68
    · rw [tThrw_o (by decide) (by decide), up_n (by decide)]; exact h69
    · rw [tThrw_o (by omega) (by omega), up_n (by omega)]
  rw [eX16_walk, sX16_walk_0, sX16_walk_1 (cr.kk k1 (by decide)), cr.rr k1 rfl, k5, sX16_walk_4]
  by_cases z : pp.1 = -1
  · rw [if_pos z] at q k6
    rw [z, optA_n, if_pos rfl, sX16_walk_17, sX16_walk_18 (cr.kk k1 (by decide)), cr.rr k1 rfl, k6, sX16_walk_21]
    by_cases y : K = -1
    · rw [if_pos y] at q
      rw [y, optA_n, sX16_walk_22, sX16_walk_23, if_pos rfl, sX16_walk_36]
      exact q h v _ P cr x7 (fun _ t => t) WGo.rf se7
    · rw [if_neg y] at q
      rw [optA_s y]
      exact fin K (by omega) kb.2 q
  · rw [if_neg z] at q
    have pc := x.2.2.1 pp.1 (pP z)
    have hc := x.2.2.2.1 pp.1 (pP z)
    have kc := (x.gx.2.2.2.2.2.2.2.1 pp.1 hc.1 hc.2).1.1
    rw [if_neg (show ¬ S 74 pp.1 = -1 by omega)] at q
    rw [optA_s z, if_neg (by simp), sX16_walk_7, sX16_walk_8 (cr.kk k1 (by decide)), cr.rr k1 rfl, k5, optA_s z, sX16_walk_11 (cr.kk kc (by decide)), cr.rr kc rfl, pc.1, sX16_walk_14, sX16_walk_21]
    exact fin _ pc.2.1 pc.2.2 q
end WS2
