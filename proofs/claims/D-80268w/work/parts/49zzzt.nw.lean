/-! PURE: names that the twin writes into its rows *-/
def nW (fc fw fp : Nat) (x : Int) : List (Int × Int) → tSt → tSt
  | [], U => U
  | q :: N, U => nW fc fw fp x N (up (up (up U fw (4 * x + U fc x) q.1) fp (4 * x + U fc x) q.2) fc x (U fc x + 1))
section NWS
variable {x : Int}
theorem tThr_ls : ∀ (d n : Nat) (S U : tSt), U 15 x = n → tThr x d S U = ((tLs 44 n d S).1, ((tLs 44 n d S).2.1, nW 15 16 17 x (tLs 44 n d S).2.2 U)) := by
  intro d
  induction d with
  | zero => intro n S U e; rfl
  | succ d ih =>
    intro n S U e
    rw [tThr, tLs]
    by_cases h4 : n = 4
    · rw [if_pos (by omega), if_pos h4]
      rfl
    · rw [if_neg (by omega), if_neg h4]
      by_cases hn : tIsN (tAdv S) = true
      · rw [if_pos hn, if_pos hn]
        by_cases hs : tName (tAdv S) 51 0 = 44
        · rw [if_pos hs, if_pos hs, ih (n + 1) _ _ (by rw [up_s, e]; rfl)]
          rfl
        · rw [if_neg hs, if_neg hs]
          rfl
      · rw [if_neg hn, if_neg hn]
        rfl
theorem tCau_ls : ∀ (d n : Nat) (S U : tSt), U 37 x = n → tCau x d S U = ((tLs 124 n d S).1, ((tLs 124 n d S).2.1, nW 37 38 39 x (tLs 124 n d S).2.2 U)) := by
  intro d
  induction d with
  | zero => intro n S U e; rfl
  | succ d ih =>
    intro n S U e
    rw [tCau, tLs]
    by_cases h4 : n = 4
    · rw [if_pos (by omega), if_pos h4]
      rfl
    · rw [if_neg (by omega), if_neg h4]
      by_cases hn : tIsN (tAdv S) = true
      · rw [if_pos hn, if_pos hn]
        by_cases hs : tName (tAdv S) 51 0 = 124
        · rw [if_pos hs, if_pos hs, ih (n + 1) _ _ (by rw [up_s, e]; rfl)]
          rfl
        · rw [if_neg hs, if_neg hs]
          rfl
      · rw [if_neg hn, if_neg hn]
        rfl
theorem tNam_ls (u : Int) : ∀ (d n : Nat) (S U : tSt), U 30 x = n → tNam x u d S U = (if (tLs 44 n d S).1 = true then (decide ((tLs 44 n d S).2.1 51 0 = u), (tTake (tLs 44 n d S).2.1 u, nW 30 31 32 x (tLs 44 n d S).2.2 U)) else (false, ((tLs 44 n d S).2.1, nW 30 31 32 x (tLs 44 n d S).2.2 U))) := by
  intro d
  induction d with
  | zero => intro n S U e; rfl
  | succ d ih =>
    intro n S U e
    rw [tNam, tLs]
    by_cases h4 : n = 4
    · rw [if_pos (by omega), if_pos h4]
      rfl
    · rw [if_neg (by omega), if_neg h4]
      by_cases hn : tIsN (tAdv S) = true
      · rw [if_pos hn, if_pos hn]
        by_cases hs : tName (tAdv S) 51 0 = 44
        · rw [if_pos hs, if_pos hs, ih (n + 1) _ _ (by rw [up_s, e]; rfl)]
          rfl
        · rw [if_neg hs, if_neg hs]
          rfl
      · rw [if_neg hn, if_neg hn]
        rfl
/-- what the written rows hold -/
theorem nW_o {fc fw fp : Nat} : ∀ (N : List (Int × Int)) (U : tSt) (f : Nat) (j : Int), f ≠ fc → f ≠ fw → f ≠ fp → nW fc fw fp x N U f j = U f j := by
  intro N
  induction N with
  | nil => intro U f j _ _ _; rfl
  | cons q N ih =>
    intro U f j h1 h2 h3
    rw [nW, ih _ _ _ h1 h2 h3]
    simp only [up_eq, h1, h2, h3, false_and, if_false]
theorem nW_c {fc fw fp : Nat} (h1 : fw ≠ fc) (h2 : fp ≠ fc) : ∀ (N : List (Int × Int)) (U : tSt) (j : Int), nW fc fw fp x N U fc j = if j = x then U fc x + N.length else U fc j := by
  intro N
  induction N with
  | nil =>
    intro U j
    rw [nW]
    split
    · next e => rw [e]; simp
    · rfl
  | cons q N ih =>
    intro U j
    rw [nW, ih]
    simp only [up_eq, true_and, and_true, if_true, List.length_cons, h1.symm, h2.symm, false_and, if_false]
    split
    · omega
    · rfl
theorem nW_w {fc fw fp : Nat} (h1 : fw ≠ fc) (h2 : fp ≠ fc) (h3 : fw ≠ fp) : ∀ (N : List (Int × Int)) (U : tSt) (j : Int), (nW fc fw fp x N U fw j = if 4 * x + U fc x ≤ j ∧ j < 4 * x + U fc x + N.length then (N.getD (j - (4 * x + U fc x)).toNat (0, 0)).1 else U fw j) ∧
    (nW fc fw fp x N U fp j = if 4 * x + U fc x ≤ j ∧ j < 4 * x + U fc x + N.length then (N.getD (j - (4 * x + U fc x)).toNat (0, 0)).2 else U fp j) := by
  intro N
  induction N with
  | nil =>
    intro U j
    simp only [nW, List.length_nil]
    exact ⟨by rw [if_neg (by omega)], by rw [if_neg (by omega)]⟩
  | cons q N ih =>
    intro U j
    rw [nW]
    have z := ih (up (up (up U fw (4 * x + U fc x) q.1) fp (4 * x + U fc x) q.2) fc x (U fc x + 1)) j
    have e1 : (up (up (up U fw (4 * x + U fc x) q.1) fp (4 * x + U fc x) q.2) fc x (U fc x + 1)) fc x = U fc x + 1 := by rw [up_s]
    have e2 : (up (up (up U fw (4 * x + U fc x) q.1) fp (4 * x + U fc x) q.2) fc x (U fc x + 1)) fw j = if j = 4 * x + U fc x then q.1 else U fw j := by
      simp only [up_eq, h1, h3, false_and, if_false, true_and]
    have e3 : (up (up (up U fw (4 * x + U fc x) q.1) fp (4 * x + U fc x) q.2) fc x (U fc x + 1)) fp j = if j = 4 * x + U fc x then q.2 else U fp j := by
      simp only [up_eq, h2, h3.symm, false_and, if_false, true_and]
    rw [e1, e2, e3] at z
    have L : ∀ m : Nat, (q :: N).getD (m + 1) (0, 0) = N.getD m (0, 0) := fun m => rfl
    have L0 : (q :: N).getD 0 (0, 0) = q := rfl
    simp only [List.length_cons]
    by_cases a : j = 4 * x + U fc x
    · have nc : ¬ (4 * x + (U fc x + 1) ≤ j ∧ j < 4 * x + (U fc x + 1) + (N.length : Int)) := by omega
      have pc : 4 * x + U fc x ≤ j ∧ j < 4 * x + U fc x + ((N.length + 1 : Nat) : Int) := by omega
      rw [if_neg nc, if_neg nc, if_pos a, if_pos a] at z
      rw [if_pos pc, if_pos pc, show (j - (4 * x + U fc x)).toNat = 0 by omega, L0]
      exact z
    · rw [if_neg a, if_neg a] at z
      by_cases b : 4 * x + U fc x ≤ j ∧ j < 4 * x + U fc x + ((N.length + 1 : Nat) : Int)
      · have pc : 4 * x + (U fc x + 1) ≤ j ∧ j < 4 * x + (U fc x + 1) + (N.length : Int) := by omega
        rw [if_pos pc, if_pos pc] at z
        rw [if_pos b, if_pos b, show (j - (4 * x + U fc x)).toNat = (j - (4 * x + (U fc x + 1))).toNat + 1 by omega, L]
        exact z
      · have nc : ¬ (4 * x + (U fc x + 1) ≤ j ∧ j < 4 * x + (U fc x + 1) + (N.length : Int)) := by omega
        rw [if_neg nc, if_neg nc] at z
        rw [if_neg b, if_neg b]
        exact z
end NWS
