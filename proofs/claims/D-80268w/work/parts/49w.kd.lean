/-! PURE: kinds lie under elder kinds *-/
section KD
variable {w : Int} {S U V : tSt} {f : Nat} {j x : Int}
def E3 (U V : tSt) : Prop := V 3 = U 3 ∧ V 6 = U 6 ∧ V 8 = U 8
theorem E3.rf : E3 U U := ⟨rfl, rfl, rfl⟩
theorem E3_up (h : E3 U V) (h1 : 3 ≠ f) (h2 : 6 ≠ f) (h3 : 8 ≠ f) : E3 U (up V f j x) := ⟨by rw [up_n h1]; exact h.1, by rw [up_n h2]; exact h.2.1, by rw [up_n h3]; exact h.2.2⟩
theorem E3_opn {what own num s : Int} (h : E3 U V) (h1 : 3 ≠ f) (h2 : 6 ≠ f) (h3 : 8 ≠ f) : E3 U (tOpn w what own num f s S V).2 := by
  show E3 U (up (tOU w what own num S V) f s (tOR w S V))
  refine E3_up ?_ h1 h2 h3
  unfold tOU
  split
  · exact E3_up (E3_up (E3_up (E3_up (E3_up (E3_up (E3_up h (by decide) (by decide) (by decide)) (by decide) (by decide) (by decide)) (by decide) (by decide) (by decide)) (by decide) (by decide) (by decide)) (by decide) (by decide) (by decide)) (by decide) (by decide) (by decide)) (by decide) (by decide) (by decide)
  · exact h
theorem E3_thr {d : Nat} (h : E3 U V) : E3 U (tThr x d S V).2.2 := ⟨by rw [tThr_u 3 (by decide) (by decide) (by decide)]; exact h.1, by rw [tThr_u 6 (by decide) (by decide) (by decide)]; exact h.2.1, by rw [tThr_u 8 (by decide) (by decide) (by decide)]; exact h.2.2⟩
theorem E3_nam {s u : Int} {d : Nat} (h : E3 U V) : E3 U (tNam s u d S V).2.2 := ⟨by rw [tNam_u 3 (by decide) (by decide) (by decide)]; exact h.1, by rw [tNam_u 6 (by decide) (by decide) (by decide)]; exact h.2.1, by rw [tNam_u 8 (by decide) (by decide) (by decide)]; exact h.2.2⟩
theorem E3_cau {c : Int} {d : Nat} (h : E3 U V) : E3 U (tCau c d S V).2.2 := ⟨by rw [tCau_u 3 (by decide) (by decide) (by decide)]; exact h.1, by rw [tCau_u 6 (by decide) (by decide) (by decide)]; exact h.2.1, by rw [tCau_u 8 (by decide) (by decide) (by decide)]; exact h.2.2⟩
theorem E3_way4 (h : E3 U V) : E3 U (tWay4 w x S V).2 := by
  unfold tWay4
  split
  · exact E3_up h (by decide) (by decide) (by decide)
  · exact E3_opn (E3_up h (by decide) (by decide) (by decide)) (by decide) (by decide) (by decide)
theorem E3_way3 (h : E3 U V) : E3 U (tWay3 w x S V).2 := by
  unfold tWay3
  split
  · split
    · exact E3_way4 (E3_thr h)
    · exact E3_thr h
  · exact E3_way4 h
theorem E3_way2 (h : E3 U V) : E3 U (tWay2 w x S V).2 := by
  unfold tWay2
  split
  · exact E3_way3 (E3_up h (by decide) (by decide) (by decide))
  · exact E3_way3 (E3_up h (by decide) (by decide) (by decide))
theorem E3_way1 (h : E3 U V) : E3 U (tWay1 w x S V).2 := by
  unfold tWay1
  split
  · split
    · exact E3_way2 (E3_up (E3_up h (by decide) (by decide) (by decide)) (by decide) (by decide) (by decide))
    · exact h
  · exact E3_way2 h
theorem E3_way (h : E3 U V) : E3 U (tWay w S V).2 := by
  unfold tWay
  split
  · exact h
  · split
    · exact E3_way1 (E3_up (E3_up (E3_up (E3_up (E3_up h (by decide) (by decide) (by decide)) (by decide) (by decide) (by decide)) (by decide) (by decide) (by decide)) (by decide) (by decide) (by decide)) (by decide) (by decide) (by decide))
    · exact h
theorem E3_enter {s b : Int} (h : E3 U V) : E3 U (tEnter w s b S V) := by
  unfold tEnter tLink
  have q1 : E3 U (up (up (up (up (up (up (up (up (up (up (up V 19 w (V 19 w + 1)) 21 s (S 49 0)) 22 s b) 23 s (V 9 w - 1)) 24 s (-1)) 25 s 0) 27 s (-1)) 28 s (-1)) 29 s (-1)) 30 s 0) 33 s 0) := by
    repeat (refine E3_up ?_ (by decide) (by decide) (by decide))
    exact h
  split
  · exact E3_up (E3_up q1 (by decide) (by decide) (by decide)) (by decide) (by decide) (by decide)
  · exact E3_up (E3_up q1 (by decide) (by decide) (by decide)) (by decide) (by decide) (by decide)
theorem E3_stmt2 {s x : Int} (h : E3 U V) : E3 U (tStmt2 w s x S V).2 := by
  unfold tStmt2
  split
  · exact E3_up h (by decide) (by decide) (by decide)
  · split
    · split
      · unfold tStmt3
        split
        · exact E3_opn (E3_up (E3_up (E3_up h (by decide) (by decide) (by decide)) (by decide) (by decide) (by decide)) (by decide) (by decide) (by decide)) (by decide) (by decide) (by decide)
        · exact E3_up (E3_up (E3_up h (by decide) (by decide) (by decide)) (by decide) (by decide) (by decide)) (by decide) (by decide) (by decide)
      · exact E3_up h (by decide) (by decide) (by decide)
    · split
      · exact E3_opn (E3_up h (by decide) (by decide) (by decide)) (by decide) (by decide) (by decide)
      · split
        · exact E3_opn (E3_up h (by decide) (by decide) (by decide)) (by decide) (by decide) (by decide)
        · split
          · split
            · exact E3_opn (E3_nam (E3_up h (by decide) (by decide) (by decide))) (by decide) (by decide) (by decide)
            · exact E3_nam (E3_up h (by decide) (by decide) (by decide))
          · exact E3_opn (E3_up h (by decide) (by decide) (by decide)) (by decide) (by decide) (by decide)
theorem E3_stmt (h : E3 U V) : E3 U (tStmt w S V).2 := by
  unfold tStmt
  split
  · split
    · exact E3_opn (E3_up (E3_enter h) (by decide) (by decide) (by decide)) (by decide) (by decide) (by decide)
    · exact E3_stmt2 (E3_enter h)
  · exact h
theorem E3_catch {s : Int} (h : E3 U V) : E3 U (tCatch w s S V).2 := by
  unfold tCatch
  split
  · exact h
  · have q1 : E3 U (up V 37 (4 * s + V 33 s) 0) := E3_up h (by decide) (by decide) (by decide)
    split
    · split
      · unfold tCatch2
        split
        · have q3 := E3_up (f := 36) (j := 4 * s + V 33 s) (x := tName (tCau (4 * s + V 33 s) 5 (tAdv S) (up V 37 (4 * s + V 33 s) 0)).2.1 54 0) (E3_up (f := 35) (j := 4 * s + V 33 s) (x := tName (tCau (4 * s + V 33 s) 5 (tAdv S) (up V 37 (4 * s + V 33 s) 0)).2.1 53 0) (E3_cau (c := 4 * s + V 33 s) (d := 5) (S := tAdv S) q1) (by decide) (by decide) (by decide)) (by decide) (by decide) (by decide)
          unfold tCatch3
          split
          · exact E3_opn (E3_up q3 (by decide) (by decide) (by decide)) (by decide) (by decide) (by decide)
          · exact q3
        · exact E3_cau q1
      · exact E3_cau q1
    · exact q1
theorem E3_behind {s : Int} {b : Bool} (h : E3 U V) : E3 U (tBehind w s b S V).2 := by
  unfold tBehind
  split
  · exact E3_catch h
  · split
    · exact E3_opn h (by decide) (by decide) (by decide)
    · split <;> exact h
theorem E3_close (h : E3 U V) : E3 U (tClose w S V).2 := by
  unfold tClose tShut
  split
  · exact h
  · split
    · split
      · exact E3_opn h (by decide) (by decide) (by decide)
      · exact h
    · split
      · split
        · exact E3_nam h
        · exact h
      · split
        · exact E3_behind h
        · split
          · exact E3_behind h
          · exact h
/-- the kinds' rows while a text is read -/
def PK (w : Int) (S U : tSt) : Prop := 4 ≤ U 3 w ∧ (∀ k, 4 ≤ k → k < U 3 w → U 8 (w * 16 + k) ≤ S 49 0) ∧ ∀ k q, 4 ≤ k → k ≤ q → q < U 3 w → U 8 (w * 16 + k) ≤ U 6 (w * 16 + q)
theorem PK_E3 {T : tSt} (h : PK w S U) (e : E3 U V) (hs : S 49 0 ≤ T 49 0) : PK w T V := by
  unfold PK
  rw [e.1, e.2.1, e.2.2]
  exact ⟨h.1, fun k a b => Int.le_trans (h.2.1 k a b) hs, h.2.2⟩
theorem PK_kO (h : PK w S U) {k : Int} (h1 : 4 ≤ k) (h2 : k < U 3 w) : kO U w (U 7 (w * 16 + k)) (U 8 (w * 16 + k)) < k := by
  unfold kO
  rcases tFst_b (fun q => decide (U 4 (w * 16 + q) = U 7 (w * 16 + k)) && decide (U 6 (w * 16 + q) < U 8 (w * 16 + k))) (U 3 w).toNat 0 with z | z
  · rw [z]; omega
  · obtain ⟨z1, z2, z3⟩ := z
    simp only [Bool.and_eq_true, decide_eq_true_eq] at z3
    generalize tFst (fun q => decide (U 4 (w * 16 + q) = U 7 (w * 16 + k)) && decide (U 6 (w * 16 + q) < U 8 (w * 16 + k))) (U 3 w).toNat 0 = t at *
    apply Classical.byContradiction
    intro y
    have := h.2.2 k t h1 (by omega) (by omega)
    omega
end KD
