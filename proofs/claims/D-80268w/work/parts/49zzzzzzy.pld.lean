/-! PURE: all places that were written lie behind the token at hand *-/
/-- places of names, as far as kinds are looked up there -/
def PL (w : Int) (S U : tSt) : Prop :=
  (∀ s, As w U s → (U 20 s = 2 → U 26 s ≤ S 49 0) ∧ (∀ i, 0 ≤ i → i < U 30 s → U 32 (4 * s + i) ≤ S 49 0) ∧ ∀ k, 0 ≤ k → k < U 33 s → ∀ i, 0 ≤ i → i < U 37 (4 * s + k) → U 39 (4 * (4 * s + k) + i) ≤ S 49 0) ∧
  ∀ m, 0 ≤ m → m < U 9 w → ∀ i, 0 ≤ i → i < U 15 (w * 12 + m) → U 17 (4 * (w * 12 + m) + i) ≤ S 49 0
section PLD
variable {w s x y p : Int} {S S' U U' : tSt} {f : Nat} {j : Int} {N : List (Int × Int)}
/-- the fields that PL looks at -/
def plF (f : Nat) : Bool := f == 9 || f == 15 || f == 17 || f == 19 || f == 20 || f == 26 || f == 30 || f == 32 || f == 33 || f == 37 || f == 39
theorem PL_E (h : PL w S U) (hs : S 49 0 ≤ S' 49 0) (e : ∀ f, plF f = true → U' f = U f) : PL w S' U' := by
  obtain ⟨h1, h2⟩ := h
  unfold PL As
  rw [e 9 rfl, e 15 rfl, e 17 rfl, e 19 rfl, e 20 rfl, e 26 rfl, e 30 rfl, e 32 rfl, e 33 rfl, e 37 rfl, e 39 rfl]
  refine ⟨fun s hsA => ?_, fun m m0 m1 i i0 i1 => Int.le_trans (h2 m m0 m1 i i0 i1) hs⟩
  obtain ⟨a1, a2, a3⟩ := h1 s hsA
  exact ⟨fun z => Int.le_trans (a1 z) hs, fun i i0 i1 => Int.le_trans (a2 i i0 i1) hs, fun k k0 k1 i i0 i1 => Int.le_trans (a3 k k0 k1 i i0 i1) hs⟩
theorem PL_t (h : PL w S U) (hs : S 49 0 ≤ S' 49 0) : PL w S' U := PL_E h hs (fun _ _ => rfl)
theorem PL_up (h : PL w S U) (hf : plF f = false) : PL w S (up U f j x) := PL_E h (Int.le_refl _) (fun g hg => up_n (fun z => by rw [z, hf] at hg; cases hg))
/-- old places stay known as they were when a kind is added behind them -/
theorem kO_new (e3 : U' 3 w = U 3 w + 1) (h0 : 0 ≤ U 3 w) (e4 : ∀ k, 0 ≤ k → k < U 3 w → U' 4 (w * 16 + k) = U 4 (w * 16 + k) ∧ U' 6 (w * 16 + k) = U 6 (w * 16 + k)) (hp : p ≤ U' 6 (w * 16 + U 3 w)) : kO U' w y p = kO U w y p := by
  have gen : ∀ (n : Nat) (k : Int), 0 ≤ k → k + n = U 3 w → tFst (fun k => decide (U' 4 (w * 16 + k) = y) && decide (U' 6 (w * 16 + k) < p)) (n + 1) k = tFst (fun k => decide (U 4 (w * 16 + k) = y) && decide (U 6 (w * 16 + k) < p)) n k := by
    intro n
    induction n with
    | zero =>
      intro k k0 hk
      show (if (decide (U' 4 (w * 16 + k) = y) && decide (U' 6 (w * 16 + k) < p)) = true then k else -1) = -1
      have e : k = U 3 w := by omega
      rw [e, decide_eq_false (p := U' 6 (w * 16 + U 3 w) < p) (by omega), Bool.and_false, if_neg (by decide)]
    | succ n ih =>
      intro k k0 hk
      show (if (decide (U' 4 (w * 16 + k) = y) && decide (U' 6 (w * 16 + k) < p)) = true then k else tFst (fun k => decide (U' 4 (w * 16 + k) = y) && decide (U' 6 (w * 16 + k) < p)) (n + 1) (k + 1)) = (if (decide (U 4 (w * 16 + k) = y) && decide (U 6 (w * 16 + k) < p)) = true then k else tFst (fun k => decide (U 4 (w * 16 + k) = y) && decide (U 6 (w * 16 + k) < p)) n (k + 1))
      rw [(e4 k k0 (by omega)).1, (e4 k k0 (by omega)).2, ih (k + 1) (by omega) (by omega)]
  unfold kO
  rw [e3, show (U 3 w + 1).toNat = (U 3 w).toNat + 1 by omega]
  exact gen _ 0 (Int.le_refl _) (by omega)
end PLD
