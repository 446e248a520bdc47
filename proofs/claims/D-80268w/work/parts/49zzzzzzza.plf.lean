/-! PURE: places, a new statement *-/
section PLF
variable {w s b k y p : Int} {S S' U V : tSt}
theorem PL_ent (h : PL w S U) (hs : s = w * 120 + U 19 w) (w19 : V 19 w = U 19 w + 1) (e : ∀ f, plF f = true → f ≠ 19 → f ≠ 20 → f ≠ 26 → f ≠ 30 → f ≠ 33 → V f = U f) (eo : ∀ f t, f = 20 ∨ f = 26 ∨ f = 30 ∨ f = 33 → t ≠ s → V f t = U f t) (v30 : V 30 s = 0) (v33 : V 33 s = 0) (v26 : V 20 s = 2 → V 26 s ≤ S' 49 0) (le : S 49 0 ≤ S' 49 0) : PL w S' V := by
  obtain ⟨h1, h2⟩ := h
  unfold PL As
  rw [e 9 rfl (by decide) (by decide) (by decide) (by decide) (by decide), e 15 rfl (by decide) (by decide) (by decide) (by decide) (by decide), e 17 rfl (by decide) (by decide) (by decide) (by decide) (by decide), e 32 rfl (by decide) (by decide) (by decide) (by decide) (by decide), e 37 rfl (by decide) (by decide) (by decide) (by decide) (by decide), e 39 rfl (by decide) (by decide) (by decide) (by decide) (by decide), w19]
  refine ⟨fun t ht => ?_, fun m m0 m1 i i0 i1 => Int.le_trans (h2 m m0 m1 i i0 i1) le⟩
  by_cases q : t = s
  · rw [q]
    exact ⟨v26, fun i i0 i1 => by omega, fun k k0 k1 => by omega⟩
  · rw [eo 20 t (by decide) q, eo 26 t (by decide) q, eo 30 t (by decide) q, eo 33 t (by decide) q]
    obtain ⟨a1, a2, a3⟩ := h1 t ⟨ht.1, by omega⟩
    exact ⟨fun z => Int.le_trans (a1 z) le, fun i i0 i1 => Int.le_trans (a2 i i0 i1) le, fun k k0 k1 i i0 i1 => Int.le_trans (a3 k k0 k1 i i0 i1) le⟩
theorem tEnter_ne {f : Nat} {t : Int} (hf : f = 20 ∨ f = 26 ∨ f = 30 ∨ f = 33) (ht : t ≠ s) : tEnter w s b S U f t = U f t := by
  unfold tEnter
  rw [tLink_o (by omega) (by omega) (by omega)]
  rw [up_eq, if_neg (fun q => ht q.2), up_eq, if_neg (fun q => ht q.2), up_eq, if_neg (fun q => ht q.2), up_eq, if_neg (fun q => ht q.2), up_eq, if_neg (fun q => ht q.2), up_eq, if_neg (fun q => ht q.2), up_eq, if_neg (fun q => ht q.2), up_eq, if_neg (fun q => ht q.2), up_eq, if_neg (fun q => ht q.2), up_eq, if_neg (fun q => ht q.2), up_n (by omega)]
theorem PL_sk (h : PL w S U) (hs : s = w * 120 + U 19 w) (hk : k ≠ 2) (le : S 49 0 ≤ S' 49 0) : PL w S' (up (tEnter w s b S U) 20 s k) := by
  have E := tE0_v (w := w) (s := s) (b := b) (S := S) (U := U)
  have g : ∀ f, f ≠ 20 → up (tEnter w s b S U) 20 s k f = tE0 w s b S U f := fun f hf => by unfold tE0; rw [up_n hf, up_n hf]
  refine PL_ent h hs (by rw [g 19 (by decide)]; exact E.1) (fun f hf h1 h2 h3 h4 h5 => ?_) (fun f t hf ht => ?_) (by rw [g 30 (by decide)]; exact E.2.2.2.2.2.2) (by rw [g 33 (by decide)]; exact E.2.2.2.2.2.1) (fun z => absurd (by rw [up_s] at z; exact z) hk) le
  · rw [g f h2]
    refine tE0_o (fun q => ?_)
    simp only [List.mem_cons, List.not_mem_nil, or_false] at q
    unfold plF at hf
    rcases q with q | q | q | q | q | q | q | q | q | q | q | q | q | q <;> rw [q] at hf h1 h2 h3 h4 h5 <;> first | exact absurd rfl h1 | exact absurd rfl h2 | exact absurd rfl h4 | exact absurd rfl h5 | exact absurd hf (by decide)
  · by_cases q : f = 20
    · rw [q, up_eq, if_neg (fun z => ht z.2)]
      exact tEnter_ne (Or.inl rfl) ht
    · rw [up_n q]
      exact tEnter_ne hf ht
theorem PL_s3 (h : PL w S U) (hs : s = w * 120 + U 19 w) (hp : p ≤ S' 49 0) (le : S 49 0 ≤ S' 49 0) : PL w S' (up (up (up (tEnter w s b S U) 20 s k) 25 s y) 26 s p) := by
  have E := tE0_v (w := w) (s := s) (b := b) (S := S) (U := U)
  have g : ∀ f, f ≠ 20 → f ≠ 25 → f ≠ 26 → up (up (up (tEnter w s b S U) 20 s k) 25 s y) 26 s p f = tE0 w s b S U f := fun f h1 h2 h3 => by unfold tE0; rw [up_n h3, up_n h2, up_n h1, up_n h1]
  refine PL_ent h hs (by rw [g 19 (by decide) (by decide) (by decide)]; exact E.1) (fun f hf h1 h2 h3 h4 h5 => ?_) (fun f t hf ht => ?_) (by rw [g 30 (by decide) (by decide) (by decide)]; exact E.2.2.2.2.2.2) (by rw [g 33 (by decide) (by decide) (by decide)]; exact E.2.2.2.2.2.1) (fun _ => by rw [up_s]; exact hp) le
  · have h25 : f ≠ 25 := fun q => by rw [q] at hf; exact absurd hf (by decide)
    rw [g f h2 h25 h3]
    refine tE0_o (fun q => ?_)
    simp only [List.mem_cons, List.not_mem_nil, or_false] at q
    unfold plF at hf
    rcases q with q | q | q | q | q | q | q | q | q | q | q | q | q | q <;> rw [q] at hf h1 h2 h3 h4 h5 <;> first | exact absurd rfl h1 | exact absurd rfl h2 | exact absurd rfl h4 | exact absurd rfl h5 | exact absurd hf (by decide)
  · rw [up_eq, if_neg (fun z => ht z.2), up_eq, if_neg (fun z => ht z.2), up_eq, if_neg (fun z => ht z.2)]
    exact tEnter_ne hf ht
end PLF
