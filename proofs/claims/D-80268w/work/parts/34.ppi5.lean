/-! PURE: the loop of reading goes on in the text -/
def Wk (S S' : tSt) : Prop := (S 52 0 ≠ -1 → S' 52 0 ≠ -1) ∧ (S' 52 0 ≠ -1 ∨ S 49 0 ≤ S' 49 0)
section PPI5
variable {w : Int} {S S' T U U' : tSt}
theorem Wk.tr (h1 : Wk S T) (h2 : Wk T S') : Wk S S' := by
  obtain ⟨a1, a2⟩ := h1
  obtain ⟨b1, b2⟩ := h2
  refine ⟨fun q => b1 (a1 q), ?_⟩
  rcases a2 with q | q
  · exact Or.inl (b1 q)
  · rcases b2 with z | z
    · exact Or.inl z
    · exact Or.inr (by omega)
theorem Wk_tks (k : Tks S S') : Wk S S' := ⟨fun q => by rw [k.2.2.2.2 q]; exact q, Or.inr k.2.2.1⟩
theorem Wk.rf : Wk S S := ⟨fun q => q, Or.inr (Int.le_refl _)⟩
theorem Wk_opn {what own num s : Int} {f : Nat} (h : PI w S U) : Wk S (tOpn w what own num f s S U).1 := by
  unfold tOpn tOS
  split
  · rename_i q
    unfold tIsO at q
    simp only [Bool.and_eq_true, decide_eq_true_eq] at q
    have t1 := SI_open (b := tOB w U) h.1 q.2
    have t2 : TK (up (up S 56 (S 55 0) (tOB w U)) 55 0 (S 55 0 + 1)) := by unfold TK; simp only [up_eq, true_and, false_and, and_true, and_false, and_self, if_true, if_false, eq_self, Nat.reduceEqDiff, reduceIte]; exact h.2.1
    have k := Wk_tks (Tks_adv t1 t2)
    unfold Wk at k
    simp only [up_eq, true_and, false_and, and_true, and_false, and_self, if_true, if_false, eq_self, Nat.reduceEqDiff, reduceIte] at k
    exact k
  · exact Wk_tks (Tks_fail h.1 h.2.1)
theorem Wk_way4 {x : Int} (h : PI w S U) (hm : U 9 w < 12) : Wk S (tWay4 w x S U).1 := by
  unfold tWay4
  split
  · exact Wk_tks (Tks_adv h.1 h.2.1)
  · refine Wk_opn ?_
    obtain ⟨h1, h2, h3, u1, u2, u3, u4, u5, u6, u7⟩ := h
    refine ⟨h1, h2, h3, ?_⟩
    unfold PU
    simp only [up_eq, true_and, false_and, and_true, and_false, and_self, if_true, if_false, eq_self, Nat.reduceEqDiff, reduceIte]
    exact ⟨u1, by omega, u3, ⟨u4.1, by omega⟩, u5, u6, u7⟩
theorem Wk_way3 {x : Int} (h : PI w S U) (hm : U 9 w < 12) : Wk S (tWay3 w x S U).1 := by
  have k := Wk_tks (Tks_thr (x := x) 5 S U h.1 h.2.1)
  unfold tWay3
  split
  · split
    · exact k.tr (Wk_way4 (PI_thr h 5) (by rw [tThr_u 9 (by decide) (by decide) (by decide)]; exact hm))
    · exact k
  · exact Wk_way4 h hm
theorem Wk_way2 {x : Int} (h : PI w S U) (hm : U 9 w < 12) : Wk S (tWay2 w x S U).1 := by
  unfold tWay2
  split
  · exact (Wk_tks (Tks_adv h.1 h.2.1)).tr (Wk_way3 (PI_up (PI_adv h) rfl) (by simp only [up_eq, true_and, false_and, and_true, and_false, and_self, if_true, if_false, eq_self, Nat.reduceEqDiff, reduceIte]; exact hm))
  · exact Wk_way3 (PI_up h rfl) (by simp only [up_eq, true_and, false_and, and_true, and_false, and_self, if_true, if_false, eq_self, Nat.reduceEqDiff, reduceIte]; exact hm)
theorem Wk_way1 {x : Int} (h : PI w S U) (hm : U 9 w < 12) : Wk S (tWay1 w x S U).1 := by
  have a1 := Tks_adv h.1 h.2.1
  have a2 := Tks_name a1.1 a1.2.1
  unfold tWay1
  split
  · split
    · exact (Wk_tks (a1.tr a2)).tr (Wk_way2 (PI_up (PI_up (PI_name (PI_adv h)) rfl) rfl) (by simp only [up_eq, true_and, false_and, and_true, and_false, and_self, if_true, if_false, eq_self, Nat.reduceEqDiff, reduceIte]; exact hm))
    · exact Wk_tks (a1.tr (Tks_fail a1.1 a1.2.1))
  · exact Wk_way2 h hm
theorem Wk_stmt2 {s x : Int} (h : PI w S U) (hs : 120 * w ≤ s ∧ s < 120 * w + U 19 w) : Wk S (tStmt2 w s x S U).1 := by
  unfold tStmt2
  split
  · exact Wk_tks (Tks_take h.1 h.2.1)
  · split
    · split
      · have a1 := Tks_name h.1 h.2.1
        unfold tStmt3
        split
        · exact (Wk_tks a1).tr (Wk_opn (PI_up (PI_up (PI_up (PI_name h) rfl) rfl) rfl))
        · exact Wk_tks (a1.tr (Tks_take a1.1 a1.2.1))
      · exact Wk_tks (Tks_fail h.1 h.2.1)
    · split
      · exact Wk_opn (PI_up h rfl)
      · split
        · exact Wk_opn (PI_up h rfl)
        · split
          · have k := Wk_tks (Tks_nam (s := s) (u := 41) 5 S (up U 20 s 9) h.1 h.2.1)
            split
            · exact k.tr (Wk_opn (PI_nam (s := s) (u := 41) 5 S (up U 20 s 9) (PI_up h rfl) (by simp only [up_eq, true_and, false_and, and_true, and_false, and_self, if_true, if_false, eq_self, Nat.reduceEqDiff, reduceIte]; exact hs)))
            · exact k
          · exact Wk_opn (PI_up h rfl)
theorem Wk_catch {s : Int} (h : PI w S U) (hs : 120 * w ≤ s ∧ s < 120 * w + U 19 w) : Wk S (tCatch w s S U).1 := by
  have a1 := Tks_adv h.1 h.2.1
  unfold tCatch
  split
  · exact Wk_tks (Tks_fail h.1 h.2.1)
  · rename_i q0
    split
    · have b1 := PI_cau (c := 4 * s + U 33 s) (PI_up (f := 37) (j := 4 * s + U 33 s) (x := 0) (PI_adv h) rfl) 5
      have k1 := a1.tr (Tks_cau (c := 4 * s + U 33 s) 5 (tAdv S) (up U 37 (4 * s + U 33 s) 0) a1.1 a1.2.1)
      have e : (tCau (4 * s + U 33 s) 5 (tAdv S) (up U 37 (4 * s + U 33 s) 0)).2.2 33 = U 33 := by rw [tCau_u 33 (by decide) (by decide) (by decide), up_n (by decide)]
      generalize tCau (4 * s + U 33 s) 5 (tAdv S) (up U 37 (4 * s + U 33 s) 0) = R at *
      split
      · unfold tCatch2
        split
        · have b2 := PI_name b1
          have k2 := k1.tr (Tks_name b1.1 b1.2.1)
          unfold tCatch3
          split
          · have b3 := PI_adv b2
            have k3 := k2.tr (Tks_adv b2.1 b2.2.1)
            refine (Wk_tks k3).tr (Wk_opn ?_)
            obtain ⟨h1, h2, h3, u1, u2, u3, u4, u5, u6, u7⟩ := b3
            refine ⟨h1, h2, h3, ?_⟩
            unfold PU
            simp only [up_eq, true_and, false_and, and_true, and_false, and_self, if_true, if_false, eq_self, Nat.reduceEqDiff, reduceIte]
            refine ⟨u1, u2, u3, u4, u5, u6, fun s' z1 z2 => ?_⟩
            have := u7 s' z1 z2
            by_cases e9 : s' = s
            · subst e9
              simp only [if_true]
              rw [e] at *
              omega
            · simp only [e9, if_false]
              exact this
          · exact Wk_tks (k2.tr (Tks_fail b2.1 b2.2.1))
        · exact Wk_tks (k1.tr (Tks_fail b1.1 b1.2.1))
      · exact Wk_tks k1
    · exact Wk_tks (a1.tr (Tks_fail a1.1 a1.2.1))
theorem Wk_behind {s : Int} {b : Bool} (h : PI w S U) (hs : 120 * w ≤ s ∧ s < 120 * w + U 19 w) : Wk S (tBehind w s b S U).1 := by
  unfold tBehind
  split
  · exact Wk_catch h hs
  · split
    · exact (Wk_tks (Tks_adv h.1 h.2.1)).tr (Wk_opn (PI_adv h))
    · split
      · exact Wk_tks (Tks_fail h.1 h.2.1)
      · exact Wk.rf
theorem Prg_step (h : PI w S U) (hm : tMore S = true) : Prg S (tStep w S U).1 := by
  have hd := h.1.2.2.2.2.2.2.2
  have tk4 := h.2.1.2.2.2
  have u2 := h.2.2.2.2.1
  unfold tMore at hm
  simp only [Bool.and_eq_true, Bool.or_eq_true, decide_eq_true_eq] at hm
  have first : S 51 0 ≠ -1 → ∀ T, Wk (tAdv S) T → Prg S T := by
    intro q T k
    have v := tAdv_val h.1.1
    have := h.2.1.2.2.1 q
    rcases k.2 with z | z
    · exact Or.inl z
    · exact Or.inr (by omega)
  have a1 := Tks_adv h.1 h.2.1
  unfold tStep
  split
  · rename_i q0
    have qs : S 51 0 ≠ -1 := by rcases hm.2 with z | z; omega; exact z
    split
    · unfold tKind
      split
      · exact Prg_fail h.1
      · split
        · have a2 := Tks_name a1.1 a1.2.1
          refine first qs _ ((Wk_tks a2).tr ?_)
          unfold tKind2
          have a3 := Tks_adv a2.1 a2.2.1
          split
          · split
            · have a4 := Tks_name a3.1 a3.2.1
              unfold tKind3
              split
              · exact Wk_tks ((a3.tr a4).tr (Tks_adv a4.1 a4.2.1))
              · exact Wk_tks ((a3.tr a4).tr (Tks_fail a4.1 a4.2.1))
            · exact Wk_tks (a3.tr (Tks_fail a3.1 a3.2.1))
          · exact Wk_tks (Tks_fail a2.1 a2.2.1)
        · exact first qs _ (Wk_tks (Tks_fail a1.1 a1.2.1))
    · split
      · unfold tWay
        split
        · exact Prg_fail h.1
        · rename_i q9
          split
          · have a2 := Tks_name a1.1 a1.2.1
            exact first qs _ ((Wk_tks a2).tr (Wk_way1 (PI_up (PI_up (PI_up (PI_up (PI_up (PI_name (PI_adv h)) rfl) rfl) rfl) rfl) rfl) (by simp only [up_eq, true_and, false_and, and_true, and_false, and_self, if_true, if_false, eq_self, Nat.reduceEqDiff, reduceIte]; omega)))
          · exact first qs _ (Wk_tks (Tks_fail a1.1 a1.2.1))
      · exact Prg_fail h.1
  · split
    · rename_i q0 q1
      have a0 := PI_dec h (by omega)
      have b1 := PI_adv a0
      obtain ⟨h1, h2, h3, u1, u2, u3, u4, u5, u6, u7⟩ := id h
      have hb := u5 (S 55 0 - 1) (by omega) (by omega)
      have ub := u6 _ hb.1 hb.2
      have v := tAdv_val a0.1.1
      simp only [up_eq, true_and, false_and, and_true, and_false, and_self, if_true, if_false, eq_self, Nat.reduceEqDiff, reduceIte] at v
      have n1 := h2.2.2.1 (by omega)
      have fin : ∀ T, Wk (tAdv (up S 55 0 (S 55 0 - 1))) T → Prg S T := by
        intro T k
        rcases k.2 with z | z
        · exact Or.inl z
        · exact Or.inr (by omega)
      unfold tClose
      refine fin _ ?_
      generalize tAdv (up S 55 0 (S 55 0 - 1)) = S1 at *
      generalize S 56 (S 55 0 - 1) = b at *
      unfold tShut
      split
      · exact Wk_tks (Tks_take b1.1 b1.2.1)
      · split
        · split
          · exact (Wk_tks (Tks_adv b1.1 b1.2.1)).tr (Wk_opn (PI_adv b1))
          · exact Wk.rf
        · split
          · split
            · exact Wk_tks (Tks_nam 5 _ _ b1.1 b1.2.1)
            · exact Wk_tks (Tks_take b1.1 b1.2.1)
          · split
            · exact Wk_behind b1 (ub.2.2 (by omega))
            · split
              · exact Wk_behind b1 (ub.2.2 (by omega))
              · exact Wk.rf
    · rename_i q0 q1
      unfold tStmt
      split
      · rename_i q
        obtain ⟨h1, h2, h3, u1, u2, u3, u4, u5, u6, u7⟩ := id h
        have hb := u5 (S 55 0 - 1) (by omega) (by omega)
        have he := PI_enter (b := S 56 (S 55 0 - 1)) h (by omega) hb
        have e19 : tEnter w (w * 120 + U 19 w) (S 56 (S 55 0 - 1)) S U 19 w = U 19 w + 1 := by
          unfold tEnter tLink
          split <;> simp only [up_eq, true_and, false_and, and_true, and_false, and_self, if_true, if_false, eq_self, Nat.reduceEqDiff, reduceIte]
        generalize tEnter w (w * 120 + U 19 w) (S 56 (S 55 0 - 1)) S U = U1 at *
        split
        · rename_i q2
          have hp := PI_up (f := 20) (j := w * 120 + U 19 w) (x := 11) he rfl
          unfold tOpn tOS
          split
          · rename_i q3
            unfold tIsO at q3
            simp only [Bool.and_eq_true, decide_eq_true_eq] at q3
            have t1 := SI_open (b := tOB w (up U1 20 (w * 120 + U 19 w) 11)) h.1 q3.2
            have v := tAdv_val t1.1
            simp only [up_eq, true_and, false_and, and_true, and_false, and_self, if_true, if_false, eq_self, Nat.reduceEqDiff, reduceIte] at v
            have := h.2.1.2.2.1 (by omega)
            exact Or.inr (show S 49 0 < tAdv (up (up S 56 (S 55 0) (tOB w (up U1 20 (w * 120 + U 19 w) 11))) 55 0 (S 55 0 + 1)) 49 0 by omega)
          · exact Prg_fail h.1
        · rename_i q2
          have q3 : S 51 0 ≠ -1 := by
            intro z
            have q4 := tk4 (by omega)
            have q5 := q.1
            unfold tBegins at q5
            rw [q4] at q5
            simp only [q2, decide_false, Bool.false_or] at q5
            exact absurd q5 (by decide)
          exact first q3 _ (Wk_stmt2 (PI_adv he) (by omega))
      · exact Prg_fail h.1
end PPI5
