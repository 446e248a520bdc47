/-! PURE: the rows of statements and blocks hang together, 3 *-/
def PR (w : Int) (U : tSt) : Prop := PQ w U ∧ 0 ≤ U 40 w ∧ (0 < U 40 w → 1 ≤ U 9 w)
section PRS
variable {w : Int} {S U : tSt} {f : Nat} {j x : Int}
theorem PR_up (p : PR w U) (hf : pqF f = true) : PR w (up U f j x) := by
  have e : ∀ g, pqF g = false → up U f j x g = U g := fun g hg => up_n (fun z => by rw [z, hf] at hg; cases hg)
  refine ⟨PQ_up p.1 hf, ?_⟩
  rw [e 40 rfl, e 9 rfl]
  exact p.2
theorem PR_20 {s : Int} (p : PR w U) (hx : 0 ≤ x ∧ x ≤ 11) : PR w (up U 20 s x) := ⟨PQ_20 p.1 hx, by rw [up_n (by decide), up_n (by decide)]; exact p.2⟩
theorem PR_tail {what own num : Int} (p : PR w U) (h9 : 1 ≤ U 9 w) : 0 ≤ tOU w what own num S U 40 w ∧ (0 < tOU w what own num S U 40 w → 1 ≤ tOU w what own num S U 9 w) := by
  have := p.2
  unfold tOU tOB
  split
  · simp only [up_eq, true_and, false_and, and_true, and_false, and_self, if_true, if_false, eq_self, Nat.reduceEqDiff, reduceIte]
    omega
  · exact this
theorem PR_opn27 {what own num s : Int} (p : PR w U) (h9 : 1 ≤ U 9 w) (hw : 1 ≤ what ∧ what ≤ 9) (h6 : what ≠ 6) (ho : As w U own) : PR w (tOpn w what own num 27 s S U).2 := by
  show PR w (up (tOU w what own num S U) 27 s (tOR w S U))
  exact ⟨PQ_27 (PQ_new p.1 (Or.inr ⟨hw, ho⟩) (fun z => absurd z h6) p.2.1) (tOR_b p.2.1), by rw [up_n (by decide), up_n (by decide)]; exact PR_tail p h9⟩
theorem PR_opn28 {what own num s : Int} (p : PR w U) (h9 : 1 ≤ U 9 w) (hw : 1 ≤ what ∧ what ≤ 9) (h6 : what ≠ 6) (ho : As w U own) : PR w (tOpn w what own num 28 s S U).2 := by
  show PR w (up (tOU w what own num S U) 28 s (tOR w S U))
  exact ⟨PQ_28 (PQ_new p.1 (Or.inr ⟨hw, ho⟩) (fun z => absurd z h6) p.2.1) (tOR_b p.2.1), by rw [up_n (by decide), up_n (by decide)]; exact PR_tail p h9⟩
theorem PR_opn29 {what own num s : Int} (p : PR w U) (h9 : 1 ≤ U 9 w) (hw : 1 ≤ what ∧ what ≤ 9) (h6 : what ≠ 6) (ho : As w U own) : PR w (tOpn w what own num 29 s S U).2 := by
  show PR w (up (tOU w what own num S U) 29 s (tOR w S U))
  exact ⟨PQ_29 (PQ_new p.1 (Or.inr ⟨hw, ho⟩) (fun z => absurd z h6) p.2.1) (tOR_b p.2.1), by rw [up_n (by decide), up_n (by decide)]; exact PR_tail p h9⟩
theorem PR_way4 (p : PR w U) (hx : U 18 (w * 12 + U 9 w) = -1) (h9 : 0 ≤ U 9 w) : PR w (tWay4 w x S U).2 := by
  have q1 : PR w (up U 9 w (U 9 w + 1)) := ⟨PQ_9 p.1 (Or.inl hx), by simp only [up_eq, true_and, false_and, and_true, and_false, and_self, if_true, if_false, eq_self, Nat.reduceEqDiff, reduceIte]; have := p.2; omega⟩
  unfold tWay4
  split
  · exact q1
  · show PR w (up (tOU w 0 (-1) (U 9 w + 1 - 1) S (up U 9 w (U 9 w + 1))) 18 x (tOR w S (up U 9 w (U 9 w + 1))))
    exact ⟨PQ_18 (PQ_new q1.1 (Or.inl ⟨rfl, rfl⟩) (fun z => by omega) q1.2.1) (tOR_b q1.2.1), by rw [up_n (by decide), up_n (by decide)]; exact PR_tail q1 (by simp only [up_eq, true_and, false_and, and_true, and_false, and_self, if_true, if_false, eq_self, Nat.reduceEqDiff, reduceIte]; omega)⟩
theorem PR_E {V : tSt} (p : PR w U) (e : ∀ g, pqF g = false → V g = U g) : PR w V := by
  unfold PR PQ Ps Pb As Ab
  simp only [e 9 rfl, e 18 rfl, e 19 rfl, e 20 rfl, e 22 rfl, e 23 rfl, e 24 rfl, e 27 rfl, e 28 rfl, e 29 rfl, e 33 rfl, e 34 rfl, e 40 rfl, e 41 rfl, e 42 rfl, e 43 rfl, e 45 rfl, e 46 rfl]
  exact p
theorem pqF_ne {g k : Nat} (hg : pqF g = false) (hk : pqF k = true) : g ≠ k := fun z => by rw [z, hk] at hg; cases hg
theorem PR_thr {d : Nat} (p : PR w U) : PR w (tThr x d S U).2.2 := PR_E p (fun g hg => tThr_u g (pqF_ne hg rfl) (pqF_ne hg rfl) (pqF_ne hg rfl) d S U)
theorem PR_nam {s u : Int} {d : Nat} (p : PR w U) : PR w (tNam s u d S U).2.2 := PR_E p (fun g hg => tNam_u g (pqF_ne hg rfl) (pqF_ne hg rfl) (pqF_ne hg rfl) d S U)
theorem PR_cau {c : Int} {d : Nat} (p : PR w U) : PR w (tCau c d S U).2.2 := PR_E p (fun g hg => tCau_u g (pqF_ne hg rfl) (pqF_ne hg rfl) (pqF_ne hg rfl) d S U)
theorem PR_way3 (p : PR w U) (hx : U 18 (w * 12 + U 9 w) = -1) (h9 : 0 ≤ U 9 w) : PR w (tWay3 w x S U).2 := by
  unfold tWay3
  split
  · split
    · refine PR_way4 (PR_thr p) ?_ ?_
      · rw [tThr_u 18 (by decide) (by decide) (by decide), tThr_u 9 (by decide) (by decide) (by decide)]; exact hx
      · rw [tThr_u 9 (by decide) (by decide) (by decide)]; exact h9
    · exact PR_thr p
  · exact PR_way4 p hx h9
theorem PR_way2 (p : PR w U) (hx : U 18 (w * 12 + U 9 w) = -1) (h9 : 0 ≤ U 9 w) : PR w (tWay2 w x S U).2 := by
  unfold tWay2
  split
  · exact PR_way3 (PR_up p rfl) (by simp only [up_eq, true_and, false_and, and_true, and_false, and_self, if_true, if_false, eq_self, Nat.reduceEqDiff, reduceIte]; exact hx) (by simp only [up_eq, true_and, false_and, and_true, and_false, and_self, if_true, if_false, eq_self, Nat.reduceEqDiff, reduceIte]; exact h9)
  · exact PR_way3 (PR_up p rfl) (by simp only [up_eq, true_and, false_and, and_true, and_false, and_self, if_true, if_false, eq_self, Nat.reduceEqDiff, reduceIte]; exact hx) (by simp only [up_eq, true_and, false_and, and_true, and_false, and_self, if_true, if_false, eq_self, Nat.reduceEqDiff, reduceIte]; exact h9)
theorem PR_way1 (p : PR w U) (hx : U 18 (w * 12 + U 9 w) = -1) (h9 : 0 ≤ U 9 w) : PR w (tWay1 w x S U).2 := by
  unfold tWay1
  split
  · split
    · exact PR_way2 (PR_up (PR_up p rfl) rfl) (by simp only [up_eq, true_and, false_and, and_true, and_false, and_self, if_true, if_false, eq_self, Nat.reduceEqDiff, reduceIte]; exact hx) (by simp only [up_eq, true_and, false_and, and_true, and_false, and_self, if_true, if_false, eq_self, Nat.reduceEqDiff, reduceIte]; exact h9)
    · exact p
  · exact PR_way2 p hx h9
theorem PR_18 {s : Int} (p : PR w U) : PR w (up U 18 s (-1)) := ⟨PQ_18 p.1 (Or.inl rfl), by rw [up_n (by decide), up_n (by decide)]; exact p.2⟩
theorem PR_way (p : PR w U) (h9 : 0 ≤ U 9 w) : PR w (tWay w S U).2 := by
  unfold tWay
  split
  · exact p
  · split
    · exact PR_way1 (PR_18 (PR_up (PR_up (PR_up (PR_up p rfl) rfl) rfl) rfl)) (by simp only [up_eq, true_and, false_and, and_true, and_false, and_self, if_true, if_false, eq_self, Nat.reduceEqDiff, reduceIte]) (by simp only [up_eq, true_and, false_and, and_true, and_false, and_self, if_true, if_false, eq_self, Nat.reduceEqDiff, reduceIte]; exact h9)
    · exact p
theorem PR_kind (p : PR w U) : PR w (tKind w S U).2 := by
  unfold tKind
  split
  · exact p
  · split
    · have q1 := PR_up (f := 5) (j := w * 16 + U 3 w) (x := tName (tAdv S) 54 0) (PR_up (f := 4) (j := w * 16 + U 3 w) (x := tName (tAdv S) 53 0) p rfl) rfl
      unfold tKind2
      split
      · split
        · unfold tKind3
          split
          · exact PR_up (PR_up (PR_up (PR_up q1 rfl) rfl) rfl) rfl
          · exact PR_up (PR_up (PR_up q1 rfl) rfl) rfl
        · exact q1
      · exact q1
    · exact p
end PRS
