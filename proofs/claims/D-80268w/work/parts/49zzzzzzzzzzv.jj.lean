/-! BOTH, 3: calls that change something *-/
section JJS
variable {x m sc len N0 S0 rd tp wr wk r : Nat} {sv : Nat → Int32} {C R : Nat → Nat} {A : Nat → Int → Nat} {T : Nat → Nat} {p0 w t : Int} {g : Int → Int} {v : vT} {h : am_H} {S S' U U1 : tSt} {Q : am_O → am_H → Prop}
theorem MID_step {n2 : Nat} {args : List am_V} {a : Int32} (c : CR h v) (ax : AX v x rd tp wr wk C R A T p0 g w S' U) (tw : TWs v.1 m w S U U1) (hw : S' 2 0 = w ∧ 0 ≤ w ∧ w ≤ 1) (qv : QV U1) (nk : NK w U) (wb : WB S') (s : SCs v.1 sc len sv) (b : 0 ≤ t ∧ S' 1 0 ≤ 20 * t ∧ (hN v.1 : Int) + 310 * S' 1 0 ≤ N0 + 6200 * t ∧ (hS v.1 : Int) + 2100 * S' 1 0 ≤ S0 + 45000 * t)
    (cl : ∀ Q2 : am_O → am_H → Prop, TS h m → Q2 (Sum.inl (some (vI a))) (tput h m w S' U) → Cl r n2 (vR (some m) :: args) (tput h m w S U) Q2) : MID x m sc len sv N0 S0 t n2 args r a h := by
  refine ⟨s.cr c, (tw.1.cr c).1, fun Q2 k2 => ?_⟩
  have := cl Q2 (tw.1.cr c) (k2 _ _ (JI_step c ax tw hw qv nk wb s b))
  rw [(tw.cr c).2.1.id] at this
  exact this
theorem WB_cg (w0 : WB S) (e : S' 65 = S 65 ∧ S' 74 = S 74 ∧ S' 67 = S 67) : WB S' := by
  unfold WB at *
  rw [e.1, e.2.1, e.2.2]
  exact w0
theorem j_cut {y : Int32} (j : JI x m sc len sv N0 S0 t h v) (q : ∀ a h', MID x m sc len sv N0 S0 (t + 1) 6 [vI y] r a h' → Q (Sum.inl (some (vI a))) h') : Cl r 5 [vR (some x), vI y] h Q := by
  have j0 := j
  obtain ⟨rd, tp, wr, wk, C, R, A, T, p0, g, w, S, U, U1, c, ax, tw, hw, qv, nk, wb, s, b⟩ := j
  have sl := ax.sl
  have yr : -2147483648 ≤ y.toInt ∧ y.toInt < 2147483648 := ⟨i_lo y, i_hi y⟩
  have ey := iI_of y
  generalize y.toInt = n at *
  rw [← ey] at q ⊢
  have tc : ∀ (h0 : am_H) (Q2 : am_O → am_H → Prop), TS h0 m → _ := fun h0 Q2 t0 => tw_cut (r := r) (h := h0) (m := m) (U := U) (Q := Q2) (n := n) t0 hw.1 sl.2.1 yr
  refine ax_cut c ax yr (fun z => q _ h ?_) (fun z h' v' c' ax' n' s' k' => q _ h' ?_)
  · refine ⟨s.cr c, (tw.1.cr c).1, fun Q2 k2 => ?_⟩
    have := tc h Q2 (tw.1.cr c)
    rw [if_pos z, (tw.cr c).2.1.id] at this
    exact this.mpr (k2 h v (JI_mono j0))
  · have E : ∀ f, f ≠ 1 → up S 1 0 n f = S f := fun f hf => up_n hf
    refine MID_step c' ax' (tw.kt k') ⟨by rw [E 2 (by decide)]; exact hw.1, hw.2⟩ qv nk (WB_cg wb ⟨E 65 (by decide), E 74 (by decide), E 67 (by decide)⟩) (s.kt k') ⟨by omega, ?_, ?_, ?_⟩ (fun Q2 t0 k => ?_)
    · rw [up_s]; omega
    · rw [up_s, n']; omega
    · rw [up_s, s']; omega
    · have := tc h' Q2 t0
      rw [if_neg z] at this
      exact this.mpr k
theorem j_feed {y1 y2 y3 y4 y5 : Int32} (j : JI x m sc len sv N0 S0 t h v) (q : ∀ a h', MID x m sc len sv N0 S0 (t + 1) 4 [vI y1, vI y2, vI y3, vI y4, vI y5] r a h' → Q (Sum.inl (some (vI a))) h') : Cl r 3 [vR (some x), vI y1, vI y2, vI y3, vI y4, vI y5] h Q := by
  have j0 := j
  obtain ⟨rd, tp, wr, wk, C, R, A, T, p0, g, w, S, U, U1, c, ax, tw, hw, qv, nk, wb, s, b⟩ := j
  have sl := ax.sl
  have tc : ∀ (h0 : am_H) (Q2 : am_O → am_H → Prop), TS h0 m → _ := fun h0 Q2 t0 => tw_feed (r := r) (h := h0) (m := m) (U := U) (Q := Q2) (a := y1) (b := y2) (c := y3) (d := y4) (e := y5) t0 hw.1 sl.2.1.1 sl.2.1.2
  refine ax_feed c ax (fun z => q _ h ?_) (fun z h' v' c' ax' n' s' k' => q _ h' ?_)
  · refine ⟨s.cr c, (tw.1.cr c).1, fun Q2 k2 => ?_⟩
    have := tc h Q2 (tw.1.cr c)
    rw [if_pos z, (tw.cr c).2.1.id] at this
    exact this.mpr (k2 h v (JI_mono j0))
  · have E : ∀ f, f ≠ 1 → f ≠ 0 → up (tFdS y1 y2 y3 y4 y5 S 20) 1 0 (S 1 0 + 20) f = S f := fun f hf h0 => by rw [up_n hf, tFdS_o 20 f h0]
    refine MID_step c' ax' (tw.kt k') ⟨by rw [E 2 (by decide) (by decide)]; exact hw.1, hw.2⟩ qv nk (WB_cg wb ⟨E 65 (by decide) (by decide), E 74 (by decide) (by decide), E 67 (by decide) (by decide)⟩) (s.kt k') ⟨by omega, ?_, ?_, ?_⟩ (fun Q2 t0 k => ?_)
    · rw [up_s]; omega
    · rw [up_s, n']; omega
    · rw [up_s, s']; omega
    · have := tc h' Q2 t0
      rw [if_neg z] at this
      exact this.mpr k
theorem j_find (j : JI x m sc len sv N0 S0 t h v) (q : ∀ a h', MID x m sc len sv N0 S0 (t + 1) 22 [] (r + 1) a h' → Q (Sum.inl (some (vI a))) h') : Cl (r + 1) 21 [vR (some x)] h Q := by
  obtain ⟨rd, tp, wr, wk, C, R, A, T, p0, g, w, S, U, U1, c, ax, tw, hw, qv, nk, wb, s, b⟩ := j
  have sl := ax.sl
  refine ax_find c ax (fun y k => NK_find nk k) (fun h' v' c' ax' n' s' s2 k' => q _ h' ?_)
  have E : ∀ f, f ≠ 1 → up S 1 0 0 f = S f := fun f hf => up_n hf
  refine MID_step c' ax' (tw.kt k') ⟨by rw [E 2 (by decide)]; exact hw.1, hw.2⟩ qv nk (WB_cg wb ⟨E 65 (by decide), E 74 (by decide), E 67 (by decide)⟩) (s.kt k') ⟨by omega, ?_, ?_, ?_⟩ (fun Q2 t0 k => (tw_find (ax.qc t0 hw) sl.2.1.1 sl.2.1.2 sl.1).mpr k)
  · rw [up_s]; omega
  · rw [up_s]
    have := sl.2.1.1
    omega
  · rw [up_s]
    have := sl.2.1.1
    omega
theorem j_walk {y : Int32} {z : Int64} (hr : 8 ≤ r) (j : JI x m sc len sv N0 S0 t h v) (q : ∀ a h', MID x m sc len sv N0 S0 (t + 1) 24 [vI y, vL z] (r + 1) a h' → Q (Sum.inl (some (vI a))) h') : Cl (r + 1) 23 [vR (some x), vI y, vL z] h Q := by
  have j0 := j
  obtain ⟨rd, tp, wr, wk, C, R, A, T, p0, g, w, S, U, U1, c, ax, tw, hw, qv, nk, wb, s, b⟩ := j
  have yr : -2147483648 ≤ y.toInt ∧ y.toInt < 2147483648 := ⟨i_lo y, i_hi y⟩
  have zr : -9223372036854775808 ≤ z.toInt ∧ z.toInt < 9223372036854775808 := ⟨l_lo z, l_hi z⟩
  have ey := iI_of y
  have ez := lI_of z
  generalize y.toInt = k at *
  generalize z.toInt = zz at *
  rw [← ey, ← ez] at q ⊢
  refine ax_walk hr c ax wb yr zr (fun p => q _ h ?_) (fun p h' v' S' c' wg e69 e68 wr' wb' ax' n' s' k' => q _ h' ?_)
  · refine ⟨s.cr c, (tw.1.cr c).1, fun Q2 k2 => ?_⟩
    have := tw_walk0 (r := r + 1) (z := zz) (Q := Q2) (ax.qc (tw.1.cr c) hw) yr zr
    rw [if_pos p, (tw.cr c).2.1.id] at this
    exact this.mpr (k2 h v (JI_mono j0))
  · have E : ∀ f, nWk f → S' f = S f := fun f hf => by
      have hg := hf
      unfold nWk at hg
      rw [wg.o hf]
      unfold tW0
      rw [tPush_o (by omega), up_n (by omega), up_n (by omega), up_n (by omega), up_n (by omega), up_n (by omega)]
    have e2 : S' 2 0 = w := by rw [E 2 (by unfold nWk; omega)]; exact hw.1
    have e1 : S' 1 0 = S 1 0 := by rw [E 1 (by unfold nWk; omega)]
    refine MID_step c' ax' (tw.kt k') ⟨e2, hw.2⟩ qv nk wb' (s.kt k') ⟨by omega, by omega, by rw [n']; omega, by rw [s']; omega⟩ (fun Q2 t0 kk => ?_)
    have qc0 := ax.qc t0 hw
    rw [tw_walk0 (r := r + 1) (z := zz) (Q := Q2) qc0 yr zr, if_neg p]
    have f2 : tW0 U w k zz S 2 0 = w := by
      unfold tW0
      rw [tPush_o (by omega), up_n (by decide), up_n (by decide), up_n (by decide), up_n (by decide), up_n (by decide)]
      exact hw.1
    refine tw_go (QC_of qc0 (by rw [f2, hw.1])) wg (fun l4 l5 => ?_)
    have b69 := wr'.2.2.1.1
    exact (tw_wend (QC_of qc0 (by rw [e2, hw.1])) wr' b69 e68 e69).mpr kk
/-- scalars that reading leaves alone -/
theorem rdk_f {f : Nat} (a1 : f ≠ 1) (a2 : f ≠ 2) (a47 : f < 47 ∨ 56 < f) : (tRun (1 - w) 2001 (tBgn S w) (tClear (1 - w) U1)).1 f = S f := by
  have := KS_run (w := 1 - w) 2001 (tBgn S w) (tClear (1 - w) U1) f (by
    have b1 : f ≠ 47 := by omega
    have b2 : f ≠ 49 := by omega
    have b3 : f ≠ 50 := by omega
    have b4 : f ≠ 51 := by omega
    have b5 : f ≠ 52 := by omega
    have b6 : f ≠ 53 := by omega
    have b7 : f ≠ 54 := by omega
    have b8 : f ≠ 55 := by omega
    have b9 : f ≠ 56 := by omega
    unfold kF
    simp [b1, b2, b3, b4, b5, b6, b7, b8, b9])
  rw [this]
  unfold tBgn
  rw [tAdv_o f (by omega) (by omega) (by omega) (by omega), up_n (by omega), up_n (by omega), up_n (by omega), up_n a2, up_n a1, up_n (by omega)]
theorem rdk_1 : (tRun (1 - w) 2001 (tBgn S w) (tClear (1 - w) U1)).1 1 0 = 0 := by
  have := KS_run (w := 1 - w) 2001 (tBgn S w) (tClear (1 - w) U1) 1 rfl
  rw [this]
  unfold tBgn
  rw [tAdv_o 1 (by decide) (by decide) (by decide) (by decide)]
  simp only [up_eq, true_and, false_and, and_true, and_false, and_self, if_true, if_false, eq_self, Nat.reduceEqDiff, reduceIte]
theorem j_read (hr : 9 ≤ r) (ht : t < 64) (j : JI x m sc len sv N0 S0 t h v) (q : ∀ a h', MID x m sc len sv N0 S0 (t + 1) 8 [] (r + 1) a h' → Q (Sum.inl (some (vI a))) h') : Cl (r + 1) 7 [vR (some x)] h Q := by
  obtain ⟨rd, tp, wr, wk, C, R, A, T, p0, g, w, S, U, U1, c, ax, tw, hw, qv, nk, wb, s, b⟩ := j
  have sl := ax.sl
  have w0 := hw.2.1
  have w1 := hw.2.2
  have qvU := ax.2.2.2.2.1.2.1.2.1
  have pi := PI_bg2 (U1 := U1) sl w0 w1
  have dn := (tRun_done 2001 _ _ pi (fun _ => by have := pi.1.2.1; omega)).2
  have y2 : (tRun (1 - w) 2001 (tBgn S w) (tClear (1 - w) U1)).1 2 0 = 1 - w := dn.2.2.1
  have y52 : -1 ≤ (tRun (1 - w) 2001 (tBgn S w) (tClear (1 - w) U1)).1 52 0 ∧ (tRun (1 - w) 2001 (tBgn S w) (tClear (1 - w) U1)).1 52 0 ≤ 2000 := dn.1.2.2.2.2.1
  have y1 := rdk_1 (w := w) (S := S) (U1 := U1)
  have keep : ∀ f, f ≠ 1 → f ≠ 2 → f < 47 ∨ 56 < f → (tRun (1 - w) 2001 (tBgn S w) (tClear (1 - w) U1)).1 f = S f := fun f a1 a2 a3 => rdk_f a1 a2 a3
  have qvY : QV (tRun (1 - w) 2001 (tBgn S w) (tClear (1 - w) U1)).2 := QV_run (by omega) 2001 _ _ pi (QV_clear qv)
  have nkY : NK (1 - w) (tRun (1 - w) 2001 (tBgn S w) (tClear (1 - w) U1)).2 := NK_run 2001 _ _ (NK_clear (by omega))
  have slY := SL_rd (U1 := U1) sl w0 w1
  have qcY : ∀ h0 : am_H, TS h0 m → (tRun (1 - w) 2001 (tBgn S w) (tClear (1 - w) U1)).1 52 0 = -1 → QC (tBase h0 m w S U) m (1 - w) (tRun (1 - w) 2001 (tBgn S w) (tClear (1 - w) U1)).1 (tRun (1 - w) 2001 (tBgn S w) (tClear (1 - w) U1)).2 := fun h0 t0 e => tw_QC t0 sl w0 w1 qv e
  have rd2 : ∀ (h0 : am_H) (Q2 : am_O → am_H → Prop), TWs h0 m w S U U1 → (Cl (r + 1) 8 [vR (some m)] h0 Q2 ↔ Rn (r + 1) 8 132 [some (vR (some m))] [] (tput (tBase h0 m w S U) m (1 - w) (tRun (1 - w) 2001 (tBgn S w) (tClear (1 - w) U1)).1 (tRun (1 - w) 2001 (tBgn S w) (tClear (1 - w) U1)).2) Q2) := fun h0 Q2 t0 => by
    have := tw_rd2 (r := r + 1) (h := h0) (m := m) (S1 := S) (U1 := U1) (U := U) (Q := Q2) t0.1 sl hw.1 w0 w1
    rw [t0.2.2.id, t0.2.1.id] at this
    exact this
  refine ax_read c ax ⟨w0, w1⟩ qv hr (by omega) (fun e h3 v3 R3 A3 T3 p3 g3 k c3 st ml ax3 n3 s3 s4 k3 => q _ h3 ?_) (fun e h2 v2 c2 ax2 n2 s2 s3 k2 => q _ h2 ?_)
  · have tw3 := tw.kt k3
    have sc3 := s.kt k3
    refine ⟨sc3.cr c3, (tw3.1.cr c3).1, fun Q2 k2 => ?_⟩
    rw [rd2 h3 Q2 (tw3.cr c3)]
    refine tw_rdS (k := k) (qcY h3 (tw3.1.cr c3) e) slY.2.2.2.2 st (by omega) e (fun z => ?_)
    have ax3 := ax3 z
    have jo : ∀ f, f ≠ 58 → f ≠ 59 → tJdg (tRun (1 - w) 2001 (tBgn S w) (tClear (1 - w) U1)).2 (1 - w) k (tRun (1 - w) 2001 (tBgn S w) (tClear (1 - w) U1)).1 f = (tRun (1 - w) 2001 (tBgn S w) (tClear (1 - w) U1)).1 f := fun f a b => by
      unfold tJdg
      rw [tSwps_o f a, tLeft_o f a b]
    generalize hJ : tJdg (tRun (1 - w) 2001 (tBgn S w) (tClear (1 - w) U1)).2 (1 - w) k (tRun (1 - w) 2001 (tBgn S w) (tClear (1 - w) U1)).1 = J at *
    have sf : ∀ f, f ≠ 57 → (f ≠ 60 ∧ f ≠ 61 ∧ f ≠ 62 ∧ f ≠ 63) → mP (up J 57 0 z) (insA [] (mAll (tRun (1 - w) 2001 (tBgn S w) (tClear (1 - w) U1)).2 (1 - w) (J 58) (J 59))) f = J f := fun f a b => by rw [mP_f b, up_n a]
    generalize mP (up J 57 0 z) (insA [] (mAll (tRun (1 - w) 2001 (tBgn S w) (tClear (1 - w) U1)).2 (1 - w) (J 58) (J 59))) = S9 at *
    generalize (tRun (1 - w) 2001 (tBgn S w) (tClear (1 - w) U1)).2 = UY at *
    generalize (tRun (1 - w) 2001 (tBgn S w) (tClear (1 - w) U1)).1 = SY at *
    have e9 : 1 - (1 - w) = w := by omega
    have T3' : TS v3.1 m := tw3.1
    have twn := TWs_2 (w := 1 - w) (S1 := up (up (up S 48 0 (S 1 0)) 1 0 0) 2 0 (1 - w)) (U1 := U) (S := S9) (U := UY) T3' (by omega) (by omega)
    rw [e9] at twn
    have s1 : S9 1 0 = 0 := by rw [sf 1 (by decide) (by decide), jo 1 (by decide) (by decide)]; exact y1
    refine k2 _ (vtp (vtp v3 m w (up (up (up S 48 0 (S 1 0)) 1 0 0) 2 0 (1 - w)) U) m (1 - w) S9 UY) ⟨rd, tp, wr, wk, C, R3, A3, T3, p3, g3, 1 - w, S9, UY, U, CR_tp (CR_tp c3 T3') (TS_t T3'), AX_tp (AX_tp ax3 T3') (TS_t T3'), twn, ⟨by rw [sf 2 (by decide) (by decide), jo 2 (by decide) (by decide)]; exact y2, by omega, by omega⟩, qvU, nkY, WB_cg wb ⟨?_, ?_, ?_⟩, (sc3.tpu T3').tpu (TS_t T3'), ⟨by omega, by rw [s1]; omega, ?_, ?_⟩⟩
    · rw [sf 65 (by decide) (by decide), jo 65 (by decide) (by decide), keep 65 (by decide) (by decide) (by decide)]
    · rw [sf 74 (by decide) (by decide), jo 74 (by decide) (by decide), keep 74 (by decide) (by decide) (by decide)]
    · rw [sf 67 (by decide) (by decide), jo 67 (by decide) (by decide), keep 67 (by decide) (by decide) (by decide)]
    · show (hN v3.1 : Int) + _ ≤ _
      rw [s1]; omega
    · show (hS v3.1 : Int) + _ ≤ _
      rw [s1]; omega
  · have tw2 := tw.kt k2
    have sc2 := s.kt k2
    refine ⟨sc2.cr c2, (tw2.1.cr c2).1, fun Q2 kk => ?_⟩
    rw [rd2 h2 Q2 (tw2.cr c2)]
    generalize (tRun (1 - w) 2001 (tBgn S w) (tClear (1 - w) U1)).2 = UY at *
    generalize (tRun (1 - w) 2001 (tBgn S w) (tClear (1 - w) U1)).1 = SY at *
    have T2' : TS v2.1 m := tw2.1
    refine (tw_rdF (r := r + 1) (h := h2) (m := m) (S1 := up (up (up S 48 0 (S 1 0)) 1 0 0) 2 0 (1 - w)) (U1 := U) (T2'.cr c2) w0 w1 y2 e ⟨y52.1, by omega⟩).mpr ?_
    have E : ∀ f, f ≠ 2 → up SY 2 0 w f = SY f := fun f hf => up_n hf
    refine kk _ (vtp (vtp v2 m (1 - w) (up SY 2 0 w) UY) m w (up SY 2 0 w) U) ⟨rd, tp, wr, wk, C, R, A, T, p0, g, w, up SY 2 0 w, U, UY, CR_tp (CR_tp c2 T2') (TS_t T2'), AX_tp (AX_tp ax2 T2') (TS_t T2'), TWs_2 T2' w0 w1, ⟨up_s, w0, w1⟩, qvY, nk, WB_cg wb ⟨?_, ?_, ?_⟩, (sc2.tpu T2').tpu (TS_t T2'), ⟨by omega, ?_, ?_, ?_⟩⟩
    · rw [E 65 (by decide), keep 65 (by decide) (by decide) (by decide)]
    · rw [E 74 (by decide), keep 74 (by decide) (by decide) (by decide)]
    · rw [E 67 (by decide), keep 67 (by decide) (by decide) (by decide)]
    · rw [E 1 (by decide), y1]; omega
    · show (hN v2.1 : Int) + _ ≤ _
      rw [E 1 (by decide), y1]; omega
    · show (hS v2.1 : Int) + _ ≤ _
      rw [E 1 (by decide), y1]; omega
end JJS
