/-! PURE: places, the end of a block *-/
section PLL
variable {w s b : Int} {S U : tSt} {N : List (Int × Int)}
theorem PL_nWn (h : PL w S U) (hn : U 30 s + N.length ≤ 4) (h30 : ∀ k, 0 ≤ U 30 k ∧ U 30 k ≤ 4) (hq : ∀ q, q ∈ N → q.2 ≤ S 49 0) : PL w S (nW 30 31 32 s N U) := by
  obtain ⟨h1, h2⟩ := h
  have e : ∀ f, f ≠ 30 → f ≠ 31 → f ≠ 32 → nW 30 31 32 s N U f = U f := fun f a b c => nW_f a b c
  unfold PL As
  rw [e 9 (by decide) (by decide) (by decide), e 15 (by decide) (by decide) (by decide), e 17 (by decide) (by decide) (by decide), e 19 (by decide) (by decide) (by decide), e 20 (by decide) (by decide) (by decide), e 26 (by decide) (by decide) (by decide), e 33 (by decide) (by decide) (by decide), e 37 (by decide) (by decide) (by decide), e 39 (by decide) (by decide) (by decide)]
  refine ⟨fun t ht => ?_, h2⟩
  obtain ⟨a1, a2, a3⟩ := h1 t ht
  refine ⟨a1, fun i i0 i1 => ?_, a3⟩
  rw [nW_c (by decide) (by decide)] at i1
  have v := (nW_w (fc := 30) (fw := 31) (fp := 32) (x := s) (by decide) (by decide) (by decide) N U (4 * t + i)).2
  rw [v]
  have ht30 := h30 t
  have hs30 := h30 s
  by_cases q : t = s
  · rw [if_pos q] at i1
    rw [q] at a2 ⊢
    by_cases z : i < U 30 s
    · rw [if_neg (by omega)]
      exact a2 i i0 z
    · rw [if_pos (by omega)]
      exact hq _ (getD_mem (by omega))
  · rw [if_neg q] at i1
    rw [if_neg (by omega)]
    exact a2 i i0 i1
theorem tLs_le4 {sp : Int} : ∀ (d n : Nat) (S : tSt), n ≤ 4 → (tLs sp n d S).2.2.length + n ≤ 4 := by
  intro d
  induction d with
  | zero => intro n S h; exact (by show 0 + n ≤ 4; omega)
  | succ d ih =>
    intro n S h
    rw [tLs]
    by_cases h4 : n = 4
    · rw [if_pos h4]
      show 0 + n ≤ 4
      omega
    · rw [if_neg h4]
      by_cases nm : tIsN (tAdv S) = true
      · rw [if_pos nm]
        by_cases y : tName (tAdv S) 51 0 = sp
        · rw [if_pos y]
          have := ih (n + 1) (tName (tAdv S)) (by omega)
          show (tLs sp (n + 1) d (tName (tAdv S))).2.2.length + 1 + n ≤ 4
          omega
        · rw [if_neg y]
          show 1 + n ≤ 4
          omega
      · rw [if_neg nm]
        show 0 + n ≤ 4
        omega
theorem PL_shut (h : PL w S U) (si : SI S) (tk : TK S) (s52 : S 52 0 = -1) (h9 : S 49 0 ≤ S 47 0) (b30 : ∀ k, 0 ≤ U 30 k ∧ U 30 k ≤ 4) (b33 : ∀ k, 0 ≤ U 33 k ∧ U 33 k ≤ 4) (b37 : ∀ k, 0 ≤ U 37 k ∧ U 37 k ≤ 4) (e : (tShut w b S U).1 52 0 = -1) : PL w (tShut w b S U).1 (tShut w b S U).2 := by
  have a47 := tAdv_47 si
  unfold tShut at e ⊢
  by_cases q1 : U 41 b = 1
  · rw [if_pos q1] at e ⊢
    have := take_49 si e s52
    exact PL_t h (by show _ ≤ tTake S 59 49 0; omega)
  · rw [if_neg q1] at e ⊢
    by_cases q2 : U 41 b = 2
    · rw [if_pos q2] at e ⊢
      by_cases q : S 50 0 = wElse
      · rw [if_pos q] at e ⊢
        have := opn_49 (SI_adv si) a47.2.2 e (by rw [tAdv_52]; exact s52)
        exact PL_ou (PL_t h (by omega)) rfl
      · rw [if_neg q]
        exact h
    · rw [if_neg q2] at e ⊢
      by_cases q8 : U 41 b = 8
      · rw [if_pos q8] at e ⊢
        by_cases q : S 50 0 = wThrows
        · rw [if_pos q] at e ⊢
          have u30 := b30 (U 42 b)
          have NL := tNam_ls (x := U 42 b) 59 5 (U 30 (U 42 b)).toNat S U (by omega)
          obtain ⟨l1, l2⟩ := tLs_pl (sp := 44) 5 (U 30 (U 42 b)).toNat S si tk h9
          have l4 := tLs_le4 (sp := 44) 5 (U 30 (U 42 b)).toNat S (by omega)
          have kt := tLs_tks (sp := 44) 5 (U 30 (U 42 b)).toNat S si tk
          rw [NL]
          generalize tLs 44 (U 30 (U 42 b)).toNat 5 S = L at *
          by_cases ok : L.1 = true
          · rw [if_pos ok]
            have t49 : L.2.1 49 0 ≤ tTake L.2.1 59 49 0 := by
              unfold tTake
              by_cases y : L.2.1 51 0 = 59
              · rw [if_pos y]
                have := (tAdv_47 kt.1).2.1
                have := kt.2.1.2.2.1 (by omega)
                omega
              · rw [if_neg y, tFail_o 49 (by decide)]
                exact Int.le_refl _
            exact PL_nWn (PL_t h (by show _ ≤ tTake L.2.1 59 49 0; omega)) (by omega) b30 (fun q hq => by have := l2 q hq; show _ ≤ tTake L.2.1 59 49 0; omega)
          · rw [if_neg ok]
            exact PL_nWn (PL_t h (by show _ ≤ L.2.1 49 0; omega)) (by omega) b30 (fun q hq => by have := l2 q hq; show _ ≤ L.2.1 49 0; omega)
        · rw [if_neg q] at e ⊢
          have := take_49 si e s52
          exact PL_t h (by show _ ≤ tTake S 59 49 0; omega)
      · rw [if_neg q8] at e ⊢
        by_cases q5 : U 41 b = 5
        · rw [if_pos q5] at e ⊢
          exact PL_behind h si tk s52 h9 b33 b37 e
        · rw [if_neg q5] at e ⊢
          by_cases q6 : U 41 b = 6
          · rw [if_pos q6] at e ⊢
            exact PL_behind h si tk s52 h9 b33 b37 e
          · rw [if_neg q6]
            exact h
end PLL
