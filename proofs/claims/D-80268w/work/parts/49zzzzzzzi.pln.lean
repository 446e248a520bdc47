/-! PURE: places, way *-/
section PLN
variable {w x : Int} {S S0 U0 U : tSt} {N : List (Int × Int)}
/-- what is known of a method's rows before its end -/
def PM (w x : Int) (S0 U0 U : tSt) : Prop := x = w * 12 + U0 9 w ∧ U 9 w = U0 9 w ∧ (∀ f, plF f = true → f ≠ 15 → U f = U0 f) ∧ (∀ j, U 15 j = if j = x then 0 else U0 15 j)
theorem PM_up {f : Nat} {j y : Int} (h : PM w x S0 U0 U) (hf : plF f = false) : PM w x S0 U0 (up U f j y) := by
  have e : ∀ g, plF g = true → up U f j y g = U g := fun g hg => up_n (fun z => by rw [z, hf] at hg; cases hg)
  obtain ⟨h1, h2, h3, h4⟩ := h
  exact ⟨h1, by rw [e 9 rfl]; exact h2, fun g hg h15 => by rw [e g hg]; exact h3 g hg h15, fun j => by rw [e 15 rfl]; exact h4 j⟩
/-- its end -/
theorem PL_way4 (h : PL w S0 U0) (m : PM w x S0 U0 U) (si : SI S) (s52 : S 52 0 = -1) (h9 : S 49 0 ≤ S 47 0) (le : S0 49 0 ≤ S 49 0) (hNl : N.length ≤ 4) (b15 : ∀ k, 0 ≤ U0 15 k ∧ U0 15 k ≤ 4) (hq : ∀ q, q ∈ N → q.2 ≤ S 49 0) (e : (tWay4 w x S (nW 15 16 17 x N U)).1 52 0 = -1) : PL w (tWay4 w x S (nW 15 16 17 x N U)).1 (tWay4 w x S (nW 15 16 17 x N U)).2 := by
  obtain ⟨m1, m2, m3, m4⟩ := m
  have a47 := tAdv_47 si
  have ux : U 15 x = 0 := by rw [m4 x, if_pos rfl]
  have o : ∀ f, f ≠ 15 → f ≠ 16 → f ≠ 17 → nW 15 16 17 x N U f = U f := fun f h1 h2 h3 => by funext j; exact nW_o N U f j h1 h2 h3
  have key : ∀ S', S 47 0 ≤ S' 49 0 → PL w S' (up (nW 15 16 17 x N U) 9 w (nW 15 16 17 x N U 9 w + 1)) := fun S' hs => by
    refine PL_met h m1 (by omega) (by rw [up_s, o 9 (by decide) (by decide) (by decide), m2]) (fun f hf h1 h2 h3 => ?_) (fun j => ?_) (fun j => ?_) hNl b15 (fun q hq' => by have := hq q hq'; omega)
    · have h16 : f ≠ 16 := fun z => by rw [z] at hf; exact absurd hf (by decide)
      rw [up_n h1, o f h2 h16 h3]
      exact m3 f hf h2
    · rw [up_n (by decide), nW_c (by decide) (by decide), ux]
      by_cases z : j = x
      · rw [if_pos z, if_pos z]; omega
      · rw [if_neg z, if_neg z, m4 j, if_neg z]
    · have v := (nW_w (fc := 15) (fw := 16) (fp := 17) (x := x) (by decide) (by decide) (by decide) N U j).2
      rw [up_n (by decide), v, ux, show 4 * x + 0 = 4 * x by omega, m3 17 rfl (by decide)]
  unfold tWay4 at e ⊢
  by_cases q : S 51 0 = 59
  · rw [if_pos q]
    exact key _ a47.2.1
  · rw [if_neg q] at e ⊢
    exact PL_ou (key _ (opn_49 si h9 e s52)) rfl
end PLN
