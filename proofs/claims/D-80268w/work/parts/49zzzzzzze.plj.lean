/-! PURE: places, catches and what is behind blocks *-/
section PLJ
variable {w s x p : Int} {S S' U : tSt} {N : List (Int × Int)}
theorem PL_rg (h : PL w S U) (h33 : 0 ≤ U 33 s ∧ U 33 s < 4) (b33 : ∀ k, 0 ≤ U 33 k ∧ U 33 k ≤ 4) (b37 : ∀ k, 0 ≤ U 37 k ∧ U 37 k ≤ 4) (hNl : N.length ≤ 4) (hq : ∀ q, q ∈ N → q.2 ≤ S 49 0) : PL w S (tRg s N x p U) := by
  obtain ⟨h1, h2⟩ := h
  have e : ∀ f, f ≠ 33 ∧ f ≠ 35 ∧ f ≠ 36 ∧ f ≠ 37 ∧ f ≠ 38 ∧ f ≠ 39 → tRg s N x p U f = U f := fun f hf => tRg_o hf
  unfold PL As
  rw [e 9 (by decide), e 15 (by decide), e 17 (by decide), e 19 (by decide), e 20 (by decide), e 26 (by decide), e 30 (by decide), e 32 (by decide)]
  refine ⟨fun t ht => ?_, h2⟩
  obtain ⟨a1, a2, a3⟩ := h1 t ht
  refine ⟨a1, a2, fun k k0 k1 i i0 i1 => ?_⟩
  rw [(tRg_v (s := s) (N := N) (x := x) (p := p) (U := U) t).1] at k1
  rw [(tRg_v (s := s) (N := N) (x := x) (p := p) (U := U) (4 * t + k)).2.2.2.1] at i1
  rw [(tRg_v (s := s) (N := N) (x := x) (p := p) (U := U) (4 * (4 * t + k) + i)).2.2.2.2.2]
  have k4 : k < 4 := by
    have := b33 t
    by_cases q : t = s
    · rw [if_pos q] at k1; omega
    · rw [if_neg q] at k1; omega
  by_cases q : 4 * t + k = 4 * s + U 33 s
  · rw [if_pos q] at i1
    rw [if_pos (by omega)]
    exact hq _ (getD_mem (by omega))
  · rw [if_neg q] at i1
    have := b37 (4 * t + k)
    rw [if_neg (by omega)]
    refine a3 k k0 ?_ i i0 i1
    by_cases z : t = s
    · rw [if_pos z] at k1
      rw [z] at q ⊢
      omega
    · rw [if_neg z] at k1
      exact k1
theorem PL_catch (h : PL w S U) (si : SI S) (tk : TK S) (s52 : S 52 0 = -1) (h9 : S 49 0 ≤ S 47 0) (b33 : ∀ k, 0 ≤ U 33 k ∧ U 33 k ≤ 4) (b37 : ∀ k, 0 ≤ U 37 k ∧ U 37 k ≤ 4) (e : (tCatch w s S U).1 52 0 = -1) : PL w (tCatch w s S U).1 (tCatch w s S U).2 := by
  have a47 := tAdv_47 si
  have si1 := SI_adv si
  have tk1 := TK_adv si.1
  have s521 : tAdv S 52 0 = -1 := by rw [tAdv_52]; exact s52
  have z0 := si.2.1
  by_cases u4 : U 33 s = 4
  · have E : tCatch w s S U = (tFail S, U) := by unfold tCatch; rw [if_pos u4]
    rw [E] at e
    have e' : tFail S 52 0 = -1 := e
    rw [tFail_52 s52] at e'
    omega
  · by_cases x40 : tAdv S 51 0 = 40
    · obtain ⟨V1, V2, TC⟩ := tCatch_e (w := w) u4 x40
      obtain ⟨i1, i2, i3, i4, i5, i6, i7, i8, i9⟩ := tLs_st (sp := 124) 5 0 (tAdv S) rfl (by decide) si1 tk1 s521
      obtain ⟨l1, l2⟩ := tLs_pl (sp := 124) 5 0 (tAdv S) si1 tk1 a47.2.2
      rw [TC] at e ⊢
      generalize tLs 124 0 5 (tAdv S) = L at *
      by_cases ok : L.1 = true
      · rw [if_pos ok] at e ⊢
        by_cases n : tIsN L.2.1 = true
        · rw [if_pos n] at e ⊢
          obtain ⟨g53, g54, g47, g49, g50, g51⟩ := tName_g n
          obtain ⟨si2, tk2, _, _, _, m52, m47⟩ := nm_name i3 i4 n
          have b47 := tAdv_47 i3
          have c47 := tAdv_47 si2
          have s522 : tName L.2.1 52 0 = -1 := by rw [m52]; exact i1 ok
          by_cases y : tName L.2.1 51 0 = 41
          · rw [if_pos y] at e ⊢
            have o := opn_49 (SI_adv si2) c47.2.2 e (by rw [tAdv_52]; exact s522)
            have tk9 : L.2.1 49 0 ≤ L.2.1 47 0 := by
              have := i4.2.2.1 (fun z => by have := (tIsN_iff.mp n).1 (i4.2.2.2 (by omega)); exact this)
              omega
            have := b33 s
            exact PL_ou (PL_rg (PL_t h (by omega)) (by omega) b33 b37 (by omega) (fun q hq => by have := l2 q hq; omega)) rfl
          · rw [if_neg y] at e
            have e' : tFail (tName L.2.1) 52 0 = -1 := e
            rw [tFail_52 s522] at e'
            have := si2.2.1
            omega
        · rw [if_neg n] at e
          have e' : tFail L.2.1 52 0 = -1 := e
          rw [tFail_52 (i1 ok)] at e'
          have := i3.2.1
          omega
      · rw [if_neg ok] at e
        exact absurd e (i2 ok)
    · have E : (tCatch w s S U).1 = tFail (tAdv S) := by unfold tCatch; rw [if_neg u4, if_neg x40]
      rw [E, tFail_52 s521] at e
      have := si1.2.1
      omega
end PLJ
