/-! PURE: ranges of the rows, kept by reading, 2 *-/
section QVT
variable {w : Int} {S U : tSt} {f : Nat} {j x : Int}
theorem QV_way4 (q : QV U) (hs : SI S) (h0 : 0 ≤ w ∧ w ≤ 1) (hb : U 40 w ≤ 1000) (hm : U 9 w < 12) : QV (tWay4 w x S U).2 := by
  have b := QV_b q (f := 9) (c := 12) rfl rfl rfl w
  have q1 : QV (up U 9 w (U 9 w + 1)) := QV_c (c := 12) q rfl rfl (by omega) (by omega)
  unfold tWay4
  split
  · exact q1
  · exact QV_opn q1 hs h0 (by simp only [up_eq, true_and, false_and, and_true, and_false, and_self, if_true, if_false, eq_self, Nat.reduceEqDiff, reduceIte]; exact hb) (by omega) (by omega) (by omega) rfl rfl
theorem QV_way3 (q : QV U) (hs : SI S) (ht : TK S) (h0 : 0 ≤ w ∧ w ≤ 1) (hb : U 40 w ≤ 1000) (hm : U 9 w < 12) : QV (tWay3 w x S U).2 := by
  unfold tWay3
  have k := Tks_thr (x := x) 5 S U hs ht
  have q1 := QV_thr (x := x) 5 S U hs ht q
  split
  · split
    · refine QV_way4 q1 k.1 h0 ?_ ?_
      · rw [tThr_u 40 (by decide) (by decide) (by decide)]; exact hb
      · rw [tThr_u 9 (by decide) (by decide) (by decide)]; exact hm
    · exact q1
  · exact QV_way4 q hs h0 hb hm
theorem QV_way2 (q : QV U) (hs : SI S) (ht : TK S) (h0 : 0 ≤ w ∧ w ≤ 1) (hb : U 40 w ≤ 1000) (hm : U 9 w < 12) : QV (tWay2 w x S U).2 := by
  unfold tWay2
  have k := Tks_adv hs ht
  split
  · exact QV_way3 (QV_x q rfl rfl (by omega) (by omega)) k.1 k.2.1 h0 (by simp only [up_eq, true_and, false_and, and_true, and_false, and_self, if_true, if_false, eq_self, Nat.reduceEqDiff, reduceIte]; exact hb) (by simp only [up_eq, true_and, false_and, and_true, and_false, and_self, if_true, if_false, eq_self, Nat.reduceEqDiff, reduceIte]; exact hm)
  · exact QV_way3 (QV_x q rfl rfl (by omega) (by omega)) hs ht h0 (by simp only [up_eq, true_and, false_and, and_true, and_false, and_self, if_true, if_false, eq_self, Nat.reduceEqDiff, reduceIte]; exact hb) (by simp only [up_eq, true_and, false_and, and_true, and_false, and_self, if_true, if_false, eq_self, Nat.reduceEqDiff, reduceIte]; exact hm)
theorem QV_way1 (q : QV U) (hs : SI S) (ht : TK S) (h0 : 0 ≤ w ∧ w ≤ 1) (hb : U 40 w ≤ 1000) (hm : U 9 w < 12) : QV (tWay1 w x S U).2 := by
  unfold tWay1
  have k1 := Tks_adv hs ht
  have k2 := Tks_name k1.1 k1.2.1
  have v2 := SI_v k2.1
  split
  · split
    · exact QV_way2 (QV_x (QV_w q rfl rfl (by omega) (by omega)) rfl rfl (by omega) (by omega)) k2.1 k2.2.1 h0 (by simp only [up_eq, true_and, false_and, and_true, and_false, and_self, if_true, if_false, eq_self, Nat.reduceEqDiff, reduceIte]; exact hb) (by simp only [up_eq, true_and, false_and, and_true, and_false, and_self, if_true, if_false, eq_self, Nat.reduceEqDiff, reduceIte]; exact hm)
    · exact q
  · exact QV_way2 q hs ht h0 hb hm
theorem QV_way (q : QV U) (hs : SI S) (ht : TK S) (h0 : 0 ≤ w ∧ w ≤ 1) (hb : U 40 w ≤ 1000) : QV (tWay w S U).2 := by
  unfold tWay
  have k1 := Tks_adv hs ht
  have k2 := Tks_name k1.1 k1.2.1
  have v2 := SI_v k2.1
  have b := QV_b q (f := 9) (c := 12) rfl rfl rfl w
  split
  · exact q
  · split
    · exact QV_way1 (QV_x (QV_c (c := 4) (QV_w (QV_x (QV_w q rfl rfl (by omega) (by omega)) rfl rfl (by omega) (by omega)) rfl rfl (by omega) (by omega)) rfl rfl (by omega) (by omega)) rfl rfl (by omega) (by omega)) k2.1 k2.2.1 h0 (by simp only [up_eq, true_and, false_and, and_true, and_false, and_self, if_true, if_false, eq_self, Nat.reduceEqDiff, reduceIte]; exact hb) (by simp only [up_eq, true_and, false_and, and_true, and_false, and_self, if_true, if_false, eq_self, Nat.reduceEqDiff, reduceIte]; omega)
    · exact q
theorem QV_enter {s b : Int} (q : QV U) (hs : SI S) (h1 : 0 ≤ s ∧ s ≤ 1000) (h2 : 0 ≤ b ∧ b ≤ 10000) (hn : U 19 w < 120) : QV (tEnter w s b S U) := by
  have v := SI_v hs
  have b9 := QV_b q (f := 9) (c := 12) rfl rfl rfl w
  have b19 := QV_b q (f := 19) (c := 120) rfl rfl rfl w
  unfold tEnter tLink
  have q1 : QV (up (up (up (up (up (up (up (up (up (up (up U 19 w (U 19 w + 1)) 21 s (S 49 0)) 22 s b) 23 s (U 9 w - 1)) 24 s (-1)) 25 s 0) 27 s (-1)) 28 s (-1)) 29 s (-1)) 30 s 0) 33 s 0) :=
    QV_c (c := 4) (QV_c (c := 4) (QV_x (QV_x (QV_x (QV_w (QV_x (QV_x (QV_x (QV_x (QV_c (c := 120) q rfl rfl (by omega) (by omega)) rfl rfl (by omega) (by omega)) rfl rfl (by omega) (by omega)) rfl rfl (by omega) (by omega)) rfl rfl (by omega) (by omega)) rfl rfl (by omega) (by omega)) rfl rfl (by omega) (by omega)) rfl rfl (by omega) (by omega)) rfl rfl (by omega) (by omega)) rfl rfl (by omega) (by omega)) rfl rfl (by omega) (by omega)
  split
  · exact QV_x (QV_x q1 rfl rfl (by omega) (by omega)) rfl rfl (by omega) (by omega)
  · exact QV_x (QV_x q1 rfl rfl (by omega) (by omega)) rfl rfl (by omega) (by omega)
theorem QV_stmt2 {s x : Int} (q : QV U) (hs : SI S) (ht : TK S) (h0 : 0 ≤ w ∧ w ≤ 1) (hb : U 40 w ≤ 1000) (h1 : 0 ≤ s ∧ s ≤ 1000) : QV (tStmt2 w s x S U).2 := by
  unfold tStmt2
  have k2 := Tks_name hs ht
  have v2 := SI_v k2.1
  split
  · exact QV_x q rfl rfl (by split; omega; split <;> omega) (by split; omega; split <;> omega)
  · split
    · have q1 : QV (up U 20 s (if x = wThrow then 2 else if x = wSet then 3 else 1)) := QV_x q rfl rfl (by split; omega; split <;> omega) (by split; omega; split <;> omega)
      split
      · have q2 := QV_x (f := 26) (j := s) (x := tName S 54 0) (QV_w (f := 25) (j := s) (x := tName S 53 0) q1 rfl rfl (by omega) (by omega)) rfl rfl (by omega) (by omega)
        unfold tStmt3
        split
        · exact QV_opn q2 k2.1 h0 (by simp only [up_eq, true_and, false_and, and_true, and_false, and_self, if_true, if_false, eq_self, Nat.reduceEqDiff, reduceIte]; exact hb) (by omega) (by omega) (by omega) rfl rfl
        · exact q2
      · exact q1
    · split
      · exact QV_opn (QV_x q rfl rfl (by split <;> omega) (by split <;> omega)) hs h0 (by simp only [up_eq, true_and, false_and, and_true, and_false, and_self, if_true, if_false, eq_self, Nat.reduceEqDiff, reduceIte]; exact hb) (by split <;> omega) (by omega) (by omega) rfl rfl
      · split
        · exact QV_opn (QV_x q rfl rfl (by split <;> omega) (by split <;> omega)) hs h0 (by simp only [up_eq, true_and, false_and, and_true, and_false, and_self, if_true, if_false, eq_self, Nat.reduceEqDiff, reduceIte]; exact hb) (by omega) (by omega) (by omega) rfl rfl
        · have q1 : QV (up U 20 s 9) := QV_x q rfl rfl (by omega) (by omega)
          split
          · have k3 := Tks_nam (s := s) (u := 41) 5 S (up U 20 s 9) hs ht
            have q3 := QV_nam (s := s) (u := 41) 5 S (up U 20 s 9) hs ht q1
            split
            · refine QV_opn q3 k3.1 h0 ?_ (by omega) (by omega) (by omega) rfl rfl
              rw [tNam_u 40 (by decide) (by decide) (by decide)]
              simp only [up_eq, true_and, false_and, and_true, and_false, and_self, if_true, if_false, eq_self, Nat.reduceEqDiff, reduceIte]
              exact hb
            · exact q3
          · exact QV_opn q1 hs h0 (by simp only [up_eq, true_and, false_and, and_true, and_false, and_self, if_true, if_false, eq_self, Nat.reduceEqDiff, reduceIte]; exact hb) (by omega) (by omega) (by omega) rfl rfl
theorem QV_stmt (q : QV U) (hs : SI S) (ht : TK S) (h0 : 0 ≤ w ∧ w ≤ 1) (hb : U 40 w ≤ 1000) (h5 : 0 ≤ S 56 (S 55 0 - 1) ∧ S 56 (S 55 0 - 1) ≤ 10000) : QV (tStmt w S U).2 := by
  have b19 := QV_b q (f := 19) (c := 120) rfl rfl rfl w
  have k1 := Tks_adv hs ht
  unfold tStmt
  split
  · rename_i p
    have e40 : ∀ s b, tEnter w s b S U 40 = U 40 := fun s b => by
      unfold tEnter tLink
      split <;> simp (disch := decide) only [up_n]
    have q1 := QV_enter (w := w) (s := w * 120 + U 19 w) (b := S 56 (S 55 0 - 1)) q hs (by omega) h5 (by omega)
    split
    · exact QV_opn (QV_x q1 rfl rfl (by omega) (by omega)) hs h0 (by rw [up_n (by decide), e40]; exact hb) (by omega) (by omega) (by omega) rfl rfl
    · exact QV_stmt2 q1 k1.1 k1.2.1 h0 (by rw [e40]; exact hb) (by omega)
  · exact q
theorem QV_catch {s : Int} (q : QV U) (hs : SI S) (ht : TK S) (h0 : 0 ≤ w ∧ w ≤ 1) (hb : U 40 w ≤ 1000) (h1 : -1 ≤ s ∧ s ≤ 1000) : QV (tCatch w s S U).2 := by
  have b33 := QV_b q (f := 33) (c := 4) rfl rfl rfl s
  have k1 := Tks_adv hs ht
  unfold tCatch
  split
  · exact q
  · have q1 : QV (up U 37 (4 * s + U 33 s) 0) := QV_c (c := 4) q rfl rfl (by omega) (by omega)
    split
    · have k2 := Tks_cau (c := 4 * s + U 33 s) 5 (tAdv S) (up U 37 (4 * s + U 33 s) 0) k1.1 k1.2.1
      have q2 := QV_cau (c := 4 * s + U 33 s) 5 (tAdv S) (up U 37 (4 * s + U 33 s) 0) k1.1 k1.2.1 q1
      have e : ∀ g, g ≠ 37 → g ≠ 38 → g ≠ 39 → (tCau (4 * s + U 33 s) 5 (tAdv S) (up U 37 (4 * s + U 33 s) 0)).2.2 g = U g := fun g q1 q2 q3 => by rw [tCau_u g q1 q2 q3, up_n q1]
      generalize tCau (4 * s + U 33 s) 5 (tAdv S) (up U 37 (4 * s + U 33 s) 0) = R at *
      have e40 := e 40 (by decide) (by decide) (by decide)
      have e33 := e 33 (by decide) (by decide) (by decide)
      split
      · unfold tCatch2
        have k3 := Tks_name k2.1 k2.2.1
        have v3 := SI_v k3.1
        have k4 := Tks_adv k3.1 k3.2.1
        split
        · have q3 := QV_x (f := 36) (j := 4 * s + U 33 s) (x := tName R.2.1 54 0) (QV_w (f := 35) (j := 4 * s + U 33 s) (x := tName R.2.1 53 0) q2 rfl rfl (by omega) (by omega)) rfl rfl (by omega) (by omega)
          unfold tCatch3
          split
          · refine QV_opn (QV_c (c := 4) q3 rfl rfl ?_ ?_) k4.1 h0 ?_ (by omega) (by omega) ?_ rfl rfl
            · simp only [up_eq, true_and, false_and, and_true, and_false, and_self, if_true, if_false, eq_self, Nat.reduceEqDiff, reduceIte]; rw [e33]; omega
            · simp only [up_eq, true_and, false_and, and_true, and_false, and_self, if_true, if_false, eq_self, Nat.reduceEqDiff, reduceIte]; rw [e33]; omega
            · simp only [up_eq, true_and, false_and, and_true, and_false, and_self, if_true, if_false, eq_self, Nat.reduceEqDiff, reduceIte]; rw [e40]; exact hb
            · simp only [up_eq, true_and, false_and, and_true, and_false, and_self, if_true, if_false, eq_self, Nat.reduceEqDiff, reduceIte]; rw [e33]; omega
          · exact q3
        · exact q2
      · exact q2
    · exact q1
theorem QV_behind {s : Int} {b : Bool} (q : QV U) (hs : SI S) (ht : TK S) (h0 : 0 ≤ w ∧ w ≤ 1) (hb : U 40 w ≤ 1000) (h1 : -1 ≤ s ∧ s ≤ 1000) : QV (tBehind w s b S U).2 := by
  unfold tBehind
  have k1 := Tks_adv hs ht
  split
  · exact QV_catch q hs ht h0 hb h1
  · split
    · exact QV_opn q k1.1 h0 hb (by omega) (by omega) (by omega) rfl rfl
    · split
      · exact q
      · exact q
/-- ranges are kept by reading -/
theorem QV_step (h : PI w S U) (h0 : 0 ≤ w ∧ w ≤ 1) (q : QV U) : QV (tStep w S U).2 := by
  have hb : U 40 w ≤ 1000 := by have := tw_bound h; omega
  have hs := h.1
  have ht := h.2.1
  have hd := h.1.2.2.2.2.2.2.2
  unfold tStep
  split
  · split
    · exact QV_kind hs ht q
    · split
      · exact QV_way q hs ht h0 hb
      · exact q
  · have a1 := PI_adv (PI_dec h (by omega))
    obtain ⟨-, -, -, u1, u2, u3, u4, u5, u6, u7⟩ := id h
    have h5 := u5 (S 55 0 - 1) (by omega) (by omega)
    have ub := u6 _ h5.1 h5.2
    split
    · unfold tClose
      generalize tAdv (up S 55 0 (S 55 0 - 1)) = S1 at *
      generalize S 56 (S 55 0 - 1) = b at *
      have k1 := Tks_adv a1.1 a1.2.1
      unfold tShut
      split
      · exact q
      · split
        · have z := ub.2.2 (by omega)
          split
          · exact QV_opn q k1.1 h0 hb (by omega) (by omega) (by omega) rfl rfl
          · exact q
        · split
          · split
            · exact QV_nam 5 _ _ a1.1 a1.2.1 q
            · exact q
          · split
            · have z := ub.2.2 (by omega)
              exact QV_behind q a1.1 a1.2.1 h0 hb (by omega)
            · split
              · have z := ub.2.2 (by omega)
                exact QV_behind q a1.1 a1.2.1 h0 hb (by omega)
              · exact q
    · exact QV_stmt q hs ht h0 hb (by omega)
theorem QV_run (h0 : 0 ≤ w ∧ w ≤ 1) : ∀ (d : Nat) (S U : tSt), PI w S U → QV U → QV (tRun w d S U).2 := by
  intro d
  induction d with
  | zero => intro S U _ q; exact q
  | succ d ih =>
    intro S U h q
    unfold tRun
    split
    · exact ih _ _ (PI_step h) (QV_step h h0 q)
    · exact q
theorem QV_clear (q : QV U) : QV (tClear w U) := by
  unfold tClear
  exact QV_x (QV_x (QV_w (QV_x (QV_x (QV_w (QV_x (QV_x (QV_w (QV_x (QV_x (QV_w (QV_c (c := 100000) (QV_c (c := 120) (QV_c (c := 12) (QV_c (c := 16) q rfl rfl (by omega) (by omega)) rfl rfl (by omega) (by omega)) rfl rfl (by omega) (by omega)) rfl rfl (by omega) (by omega)) rfl rfl (by omega) (by omega)) rfl rfl (by omega) (by omega)) rfl rfl (by omega) (by omega)) rfl rfl (by omega) (by omega)) rfl rfl (by omega) (by omega)) rfl rfl (by omega) (by omega)) rfl rfl (by omega) (by omega)) rfl rfl (by omega) (by omega)) rfl rfl (by omega) (by omega)) rfl rfl (by omega) (by omega)) rfl rfl (by omega) (by omega)) rfl rfl (by omega) (by omega)
theorem QV_tZ : QV tZ := fun f j => ⟨by unfold tLow tZ; split <;> omega, by unfold tZ; omega, fun _ => by unfold tCap tZ; split; omega; split; omega; split; omega; split <;> omega⟩
end QVT
