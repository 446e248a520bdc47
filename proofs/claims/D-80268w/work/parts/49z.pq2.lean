/-! PURE: the rows of statements and blocks hang together, 2 *-/
section PQT
variable {w : Int} {S U : tSt}
/-- a catch more -/
theorem PQ_33 {s x : Int} (p : PQ w U) (hx : x = -1 ∨ Ab w U x) (hs : 0 ≤ U 33 s) : PQ w (up (up U 34 (4 * s + U 33 s) x) 33 s (U 33 s + 1)) := by
  obtain ⟨p1, p2, p3⟩ := p
  unfold PQ Ps Pb As Ab at *
  simp only [up_eq, true_and, false_and, and_true, and_false, and_self, if_true, if_false, eq_self, Nat.reduceEqDiff, reduceIte]
  refine ⟨fun s' hs' => ?_, fun b hb => ?_, p3⟩
  · obtain ⟨a1, a2, a3, a4, a5, a6, a7, a8⟩ := p1 s' hs'
    refine ⟨a1, a2, a3, a4, a5, a6, a7, fun k k1 k2 => ?_⟩
    by_cases z : 4 * s' + k = 4 * s + U 33 s
    · rw [if_pos z]; exact hx
    · rw [if_neg z]
      refine a8 k k1 ?_
      by_cases y : s' = s
      · subst y
        rw [if_pos rfl] at k2
        omega
      · rw [if_neg y] at k2
        exact k2
  · obtain ⟨b1, b2, b3, b4⟩ := p2 b hb
    refine ⟨b1, b2, b3, fun z => ?_⟩
    have := b4 z
    by_cases y : U 42 b = s
    · rw [if_pos y]; rw [y] at this; omega
    · rw [if_neg y]; exact this
/-- a method more -/
theorem PQ_9 (p : PQ w U) (hx : U 18 (w * 12 + U 9 w) = -1 ∨ Ab w U (U 18 (w * 12 + U 9 w))) : PQ w (up U 9 w (U 9 w + 1)) := by
  obtain ⟨p1, p2, p3⟩ := p
  unfold PQ Ps Pb As Ab at *
  simp only [up_eq, true_and, false_and, and_true, and_false, and_self, if_true, if_false, eq_self, Nat.reduceEqDiff, reduceIte]
  refine ⟨fun s' hs' => ?_, p2, fun k k1 k2 => ?_⟩
  · obtain ⟨a1, a2, a3, a4, a5, a6, a7, a8⟩ := p1 s' hs'
    exact ⟨a1, a2, a3, by omega, a5, a6, a7, a8⟩
  · by_cases e : k = U 9 w
    · rw [e]; exact hx
    · exact p3 k k1 (by omega)
/-- a statement more, its sort told -/
theorem PQ_ent {b x : Int} (p : PQ w U) (hb : Ab w U b) (h9 : 1 ≤ U 9 w) (hx : 0 ≤ x ∧ x ≤ 11) (hn : 0 ≤ U 19 w) (w0 : 0 ≤ w) : PQ w (up (tEnter w (w * 120 + U 19 w) b S U) 20 (w * 120 + U 19 w) x) := by
  obtain ⟨p1, p2, p3⟩ := p
  have pb := (p2 b hb).2.2.1
  unfold tEnter tLink
  simp only [up_eq, true_and, false_and, and_true, and_false, and_self, if_true, if_false, eq_self, Nat.reduceEqDiff, reduceIte]
  by_cases q : U 46 b = -1
  · rw [if_pos q]
    unfold PQ Ps Pb As Ab at *
    simp only [up_eq, true_and, false_and, and_true, and_false, and_self, if_true, if_false, eq_self, Nat.reduceEqDiff, reduceIte]
    refine ⟨fun s' hs' => ?_, fun b' hb' => ?_, p3⟩
    · by_cases e : s' = w * 120 + U 19 w
      · simp only [if_pos e]
        exact ⟨hb, Or.inl trivial, hx, by omega, Or.inl trivial, Or.inl trivial, Or.inl trivial, fun k k1 k2 => by omega⟩
      · simp only [if_neg e]
        obtain ⟨a1, a2, a3, a4, a5, a6, a7, a8⟩ := p1 s' (by omega)
        exact ⟨a1, by omega, a3, a4, a5, a6, a7, a8⟩
    · obtain ⟨b1, b2, b3, b4⟩ := p2 b' hb'
      have ne : ¬ U 42 b' = w * 120 + U 19 w := by omega
      simp only [if_neg ne]
      by_cases y : b' = b
      · simp only [if_pos y]
        exact ⟨by omega, by omega, by omega, b4⟩
      · simp only [if_neg y]
        exact ⟨by omega, by omega, by omega, b4⟩
  · rw [if_neg q]
    have pb := pb.resolve_left q
    unfold PQ Ps Pb As Ab at *
    simp only [up_eq, true_and, false_and, and_true, and_false, and_self, if_true, if_false, eq_self, Nat.reduceEqDiff, reduceIte]
    refine ⟨fun s' hs' => ?_, fun b' hb' => ?_, p3⟩
    · by_cases e : s' = w * 120 + U 19 w
      · have e2 : ¬ s' = U 46 b := by omega
        simp only [if_pos e, if_neg e2]
        exact ⟨hb, Or.inl trivial, hx, by omega, Or.inl trivial, Or.inl trivial, Or.inl trivial, fun k k1 k2 => by omega⟩
      · simp only [if_neg e]
        obtain ⟨a1, a2, a3, a4, a5, a6, a7, a8⟩ := p1 s' (by omega)
        exact ⟨a1, by split <;> omega, a3, a4, a5, a6, a7, a8⟩
    · obtain ⟨b1, b2, b3, b4⟩ := p2 b' hb'
      have ne : ¬ U 42 b' = w * 120 + U 19 w := by omega
      simp only [if_neg ne]
      by_cases y : b' = b
      · simp only [if_pos y]
        exact ⟨by omega, by omega, by omega, b4⟩
      · simp only [if_neg y]
        exact ⟨by omega, by omega, by omega, b4⟩
end PQT
