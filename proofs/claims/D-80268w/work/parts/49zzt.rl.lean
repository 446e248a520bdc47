/-! JDK: maps, 13: a table of twice the length, bin by bin *-/
section RLL
variable {h h2 g g' : am_H} {v : vT} {r m t1 t2 n j : Nat} {NS : List Nat} {Q : am_O → am_H → Prop}
theorem bIx_half (hn : n = 16 ∨ n = 32) (y : Int32) : bIx n y < n ∧ (bIx (2 * n) y = bIx n y ∨ bIx (2 * n) y = bIx n y + n) := by
  have := bIx_dbl hn y
  have h1 := (bIx_lt n (by omega) y).1
  refine ⟨h1, ?_⟩
  by_cases q : y &&& iI n = 0
  · exact Or.inl (this.1 q)
  · exact Or.inr (this.2 q)
/-- the new table is filled up to bin j -/
def RI (h2 : am_H) (t1 t2 n : Nat) (NS : List Nat) (j : Nat) (g : am_H) : Prop :=
  g.1 = h2.1 ∧ g.2.1 = h2.2.1 ∧ (∀ b k, hI g b k = hI h2 b k) ∧ (∀ b k, hJ g b k = hJ h2 b k) ∧ (∀ b k, b ≠ t1 → b ≠ t2 → ¬ (b ∈ NS ∧ k = 3) → hR g b k = hR h2 b k) ∧ (∀ x, x ∈ NS → j ≤ bIx n (hI h2 x 0) → hR g x 3 = hR h2 x 3) ∧ (∀ i, j ≤ i → hR g t1 i = hR h2 t1 i) ∧
  (∀ i, i < 2 * n → (i % n < j → isLB g (2 * n) (hR g t2 i) NS i) ∧ (j ≤ i % n → hR g t2 i = none))
theorem RI_step (hn : n = 16 ∨ n = 32) (hj : j < n) (tt : t1 ≠ t2) (nt1 : t1 ∉ NS) (nt2 : t2 ∉ NS) (R : RI h2 t1 t2 n NS j g) (c1 : g'.1 = g.1) (c2 : g'.2.1 = g.2.1) (c3 : ∀ b k, hI g' b k = hI g b k) (c4 : ∀ b k, hJ g' b k = hJ g b k)
    (c5 : ∀ b k, ¬ (b = t1 ∧ k = j) → ¬ (b = t2 ∧ (k = j ∨ k = j + n)) → ¬ (b ∈ NS ∧ bIx n (hI h2 b 0) = j ∧ k = 3) → hR g' b k = hR g b k) (lA : isLB g' (2 * n) (hR g' t2 j) NS j) (lB : isLB g' (2 * n) (hR g' t2 (j + n)) NS (j + n)) : RI h2 t1 t2 n NS (j + 1) g' := by
  obtain ⟨r1, r2, r3, r4, r5, r6, r7, r8⟩ := R
  refine ⟨c1.trans r1, c2.trans r2, fun b k => (c3 b k).trans (r3 b k), fun b k => (c4 b k).trans (r4 b k), fun b k q1 q2 q3 => ?_, fun x hx q => ?_, fun i hi => ?_, fun i hi => ⟨fun q => ?_, fun q => ?_⟩⟩
  · rw [c5 b k (fun w => q1 w.1) (fun w => q2 w.1) (fun w => q3 ⟨w.1, w.2.2⟩)]
    exact r5 b k q1 q2 q3
  · rw [c5 x 3 (fun w => nt1 (by rw [← w.1]; exact hx)) (fun w => nt2 (by rw [← w.1]; exact hx)) (fun w => by omega)]
    exact r6 x hx (by omega)
  · rw [c5 t1 i (fun w => by omega) (fun w => tt w.1) (fun w => nt1 w.1)]
    exact r7 i (by omega)
  · by_cases e1 : i = j
    · rw [e1]; exact lA
    by_cases e2 : i = j + n
    · rw [e2]; exact lB
    have im : i % n < j := by
      rcases hn with rfl | rfl <;> omega
    have := (r8 i hi).1 im
    rw [c5 t2 i (fun w => tt w.1.symm) (fun w => by omega) (fun w => nt2 w.1)]
    obtain ⟨xs, ch, nd, k12, mem⟩ := this
    refine ⟨xs, chn_l (fun x hx => ?_) ch, nd, fun x hx => ?_, fun x => ?_⟩
    · have hm := (mem x).mp hx
      refine c5 x 3 (fun w => nt1 (by rw [← w.1]; exact hm.1)) (fun w => nt2 (by rw [← w.1]; exact hm.1)) (fun w => ?_)
      have b := bIx_half hn (hI h2 x 0)
      rw [r3] at hm
      have hm2 := hm.2
      have w2 := w.2.1
      rcases hn with rfl | rfl <;> omega
    · rw [show hK g' x = hK g x by unfold hK; rw [c1, c2]]
      exact k12 x hx
    · rw [mem x, c3]
  · rw [c5 t2 i (fun w => tt w.1.symm) (fun w => by rcases hn with rfl | rfl <;> omega) (fun w => nt2 w.1)]
    exact (r8 i hi).2 (by omega)
end RLL
