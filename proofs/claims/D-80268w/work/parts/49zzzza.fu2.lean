/-! PURE: steps that keep old rows *-/
section FU2
variable {w x y s b j : Int} {S U V : tSt} {f : Nat}
theorem FU_up (h : FU w U V) (h19 : f ≠ 19) (h40 : f ≠ 40) (hj : f = 24 ∨ f = 45 ∨ f = 46 ∨ fuB U w f ≤ j) : FU w U (up V f j x) := by
  refine ⟨?_, ?_, fun g i a1 a2 a3 a4 a5 a6 a7 => ?_⟩
  · rw [up_n (Ne.symm h19)]
    exact h.1
  · rw [up_n (Ne.symm h40)]
    exact h.2.1
  · rw [up_eq, if_neg, h.2.2 g i a1 a2 a3 a4 a5 a6 a7]
    rintro ⟨e, e2⟩
    rw [e] at a2 a4 a5 a7
    omega
theorem FU_19 (h : FU w U V) : FU w U (up V 19 w (V 19 w + 1)) := by
  refine ⟨?_, ?_, fun g i a1 a2 a3 a4 a5 a6 a7 => ?_⟩
  · rw [up_s]
    have := h.1
    omega
  · rw [up_n (by decide)]
    exact h.2.1
  · rw [up_n a1, h.2.2 g i a1 a2 a3 a4 a5 a6 a7]
theorem FU_40 (h : FU w U V) : FU w U (up V 40 w (V 40 w + 1)) := by
  refine ⟨?_, ?_, fun g i a1 a2 a3 a4 a5 a6 a7 => ?_⟩
  · rw [up_n (by decide)]
    exact h.1
  · rw [up_s]
    have := h.2.1
    omega
  · rw [up_n a3, h.2.2 g i a1 a2 a3 a4 a5 a6 a7]
/-- a row of a statement that is new -/
theorem FU_st (h : FU w U V) (hs : 120 * w + U 19 w ≤ s) (h1 : 20 ≤ f) (h2 : f ≤ 30 ∨ f = 33) : FU w U (up V f s x) :=
  FU_up h (by omega) (by omega) (Or.inr (Or.inr (Or.inr (by unfold fuB; rw [if_neg (by omega), if_pos (by omega)]; exact hs))))
theorem FU_bl (h : FU w U V) (hb : 1024 * w + U 40 w ≤ b) (h1 : 41 ≤ f) : FU w U (up V f b x) :=
  FU_up h (by omega) (by omega) (Or.inr (Or.inr (Or.inr (by unfold fuB; rw [if_neg (by omega), if_neg (by omega), if_neg (by omega), if_neg (by omega)]; exact hb))))
theorem FU_link (h : FU w U V) : FU w U (tLink s b V) := by
  unfold tLink
  split
  · exact FU_up (FU_up h (by decide) (by decide) (Or.inr (Or.inl rfl))) (by decide) (by decide) (Or.inr (Or.inr (Or.inl rfl)))
  · exact FU_up (FU_up h (by decide) (by decide) (Or.inl rfl)) (by decide) (by decide) (Or.inr (Or.inr (Or.inl rfl)))
theorem FU_enter (h : FU w U V) (hs : 120 * w + U 19 w ≤ s) : FU w U (tEnter w s b S V) := by
  unfold tEnter
  exact FU_link (FU_st (FU_st (FU_st (FU_st (FU_st (FU_st (FU_st (FU_st (FU_st (FU_st (FU_19 h) hs (by decide) (by decide)) hs (by decide) (by decide)) hs (by decide) (by decide)) hs (by decide) (by decide)) hs (by decide) (by decide)) hs (by decide) (by decide)) hs (by decide) (by decide)) hs (by decide) (by decide)) hs (by decide) (by decide)) hs (by decide) (by decide))
theorem FU_tOU {what own num : Int} (h : FU w U V) : FU w U (tOU w what own num S V) := by
  have hb : 1024 * w + U 40 w ≤ tOB w V := by
    have := h.2.1
    unfold tOB
    omega
  unfold tOU
  split
  · exact FU_bl (FU_bl (FU_bl (FU_bl (FU_bl (FU_bl (FU_40 h) hb (by decide)) hb (by decide)) hb (by decide)) hb (by decide)) hb (by decide)) hb (by decide)
  · exact h
/-- a block of a statement that is new begins -/
theorem FU_opn {what own num : Int} (h : FU w U V) (hs : 120 * w + U 19 w ≤ s) (h1 : 27 ≤ f) (h2 : f ≤ 29) : FU w U (tOpn w what own num f s S V).2 := by
  unfold tOpn
  exact FU_st (FU_tOU h) hs (by omega) (by omega)
theorem FU_nW {N : List (Int × Int)} (h : FU w U V) (hs : 120 * w + U 19 w ≤ s) (v0 : 0 ≤ V 30 s) : FU w U (nW 30 31 32 s N V) := by
  refine ⟨?_, ?_, fun g i a1 a2 a3 a4 a5 a6 a7 => ?_⟩
  · rw [nW_o _ _ _ _ (by decide) (by decide) (by decide)]
    exact h.1
  · rw [nW_o _ _ _ _ (by decide) (by decide) (by decide)]
    exact h.2.1
  · rw [← h.2.2 g i a1 a2 a3 a4 a5 a6 a7]
    have ww := nW_w (x := s) (fc := 30) (fw := 31) (fp := 32) (by decide) (by decide) (by decide) N V i
    by_cases g0 : g = 30
    · rw [g0] at a7 ⊢
      rw [nW_c (by decide) (by decide), if_neg]
      unfold fuB at a7
      rw [if_neg (by decide), if_pos (by decide)] at a7
      omega
    · by_cases g1 : g = 31
      · rw [g1] at a7 ⊢
        unfold fuB at a7
        rw [if_neg (by decide), if_neg (by decide), if_pos (by decide)] at a7
        rw [ww.1, if_neg (by omega)]
      · by_cases g2 : g = 32
        · rw [g2] at a7 ⊢
          unfold fuB at a7
          rw [if_neg (by decide), if_neg (by decide), if_pos (by decide)] at a7
          rw [ww.2, if_neg (by omega)]
        · exact nW_o _ _ _ _ g0 g1 g2
end FU2
