/-! COMPONENT, 94: a kind more: the rows *-/
def nkU (w k x1 p1 x2 p2 q : Int) (U : tSt) : tSt := up (up (up (up (up (up U 4 k x1) 5 k p1) 7 k x2) 8 k p2) 6 k q) 3 w (U 3 w + 1)
section KDS
variable {w x1 p1 x2 p2 q : Int} {S U : tSt}
theorem tKind_e (u3 : U 3 w ≠ 16) (n1 : tIsN (tAdv S) = true) (e : tName (tAdv S) 50 0 = wBelow) (n3 : tIsN (tAdv (tName (tAdv S))) = true) (e5 : tName (tAdv (tName (tAdv S))) 51 0 = 59) :
    tKind w S U = (tAdv (tName (tAdv (tName (tAdv S)))), nkU w (w * 16 + U 3 w) (tAdv S 50 0) (tAdv S 49 0) (tAdv (tName (tAdv S)) 50 0) (tAdv (tName (tAdv S)) 49 0) (tName (tAdv (tName (tAdv S))) 49 0) U) := by
  obtain ⟨f53, f54, _⟩ := tName_g n1
  obtain ⟨k53, k54, _⟩ := tName_g n3
  unfold tKind tKind2 tKind3 nkU
  rw [if_neg u3, if_pos n1, if_pos e, if_pos n3, if_pos e5, f53, f54, k53, k54]
  simp only [up_eq, true_and, false_and, and_true, and_false, and_self, if_true, if_false, eq_self, Nat.reduceEqDiff, reduceIte]
theorem nkU_o {f : Nat} (h : f < 3 ∨ 8 < f) {k : Int} : nkU w k x1 p1 x2 p2 q U f = U f := by
  unfold nkU
  rw [up_n (by omega), up_n (by omega), up_n (by omega), up_n (by omega), up_n (by omega), up_n (by omega)]
theorem nkU_3 {k : Int} : nkU w k x1 p1 x2 p2 q U 3 w = U 3 w + 1 := by
  unfold nkU
  rw [up_s]
theorem nkU_k {f : Nat} (h : 4 ≤ f ∧ f ≤ 8) {j k : Int} (hj : j ≠ k) : nkU w k x1 p1 x2 p2 q U f j = U f j := by
  unfold nkU
  rw [up_n (by omega)]
  simp only [up_eq]
  rw [if_neg (by omega), if_neg (by omega), if_neg (by omega), if_neg (by omega), if_neg (by omega)]
theorem nkU_v {k : Int} : nkU w k x1 p1 x2 p2 q U 4 k = x1 ∧ nkU w k x1 p1 x2 p2 q U 5 k = p1 ∧ nkU w k x1 p1 x2 p2 q U 7 k = x2 ∧ nkU w k x1 p1 x2 p2 q U 8 k = p2 ∧ nkU w k x1 p1 x2 p2 q U 6 k = q := by
  unfold nkU
  simp only [up_eq, true_and, false_and, and_true, and_false, and_self, if_true, if_false, eq_self, Nat.reduceEqDiff, reduceIte]
  try trivial
theorem nkU_ek {k : Int} : EK U (nkU w k x1 p1 x2 p2 q U) := fun f hf => nkU_o (by omega)
theorem kO_nk {y p : Int} (h0 : 0 ≤ U 3 w) (hp : p ≤ q) : kO (nkU w (w * 16 + U 3 w) x1 p1 x2 p2 q U) w y p = kO U w y p :=
  kO_new nkU_3 h0 (fun k k0 k1 => ⟨nkU_k (by omega) (by omega), nkU_k (by omega) (by omega)⟩) (by rw [nkU_v.2.2.2.2]; exact hp)
theorem tFst_app (P : Int → Bool) : ∀ (d : Nat) (k : Int), 0 ≤ k → tFst P (d + 1) k = if tFst P d k = -1 then (if P (k + d) = true then k + d else -1) else tFst P d k := by
  intro d
  induction d with
  | zero =>
    intro k _
    show (if P k = true then k else -1) = if (-1 : Int) = -1 then (if P (k + ((0 : Nat) : Int)) = true then k + ((0 : Nat) : Int) else -1) else -1
    rw [if_pos rfl, show k + ((0 : Nat) : Int) = k by omega]
  | succ d ih =>
    intro k k0
    rw [tFst, ih (k + 1) (by omega), tFst]
    by_cases h : P k = true
    · rw [if_pos h, if_pos h, if_neg (by omega)]
    · rw [if_neg h, if_neg h, show k + 1 + (d : Int) = k + ((d + 1 : Nat) : Int) by omega]
theorem kO_nk2 {y p : Int} (h0 : 0 ≤ U 3 w) (hp : q < p) : kO (nkU w (w * 16 + U 3 w) x1 p1 x2 p2 q U) w y p = if kO U w y p = -1 then (if y = x1 then U 3 w else -1) else kO U w y p := by
  unfold kO
  rw [nkU_3, show (U 3 w + 1).toNat = (U 3 w).toNat + 1 by omega, tFst_app _ _ _ (Int.le_refl _)]
  have e : tFst (fun k => decide (nkU w (w * 16 + U 3 w) x1 p1 x2 p2 q U 4 (w * 16 + k) = y) && decide (nkU w (w * 16 + U 3 w) x1 p1 x2 p2 q U 6 (w * 16 + k) < p)) (U 3 w).toNat 0 = tFst (fun k => decide (U 4 (w * 16 + k) = y) && decide (U 6 (w * 16 + k) < p)) (U 3 w).toNat 0 :=
    tFst_congr _ _ (fun j a b => by rw [nkU_k (f := 4) (by omega) (by omega), nkU_k (f := 6) (by omega) (by omega)])
  rw [e, show (0 : Int) + ((U 3 w).toNat : Int) = U 3 w by omega, nkU_v.1, nkU_v.2.2.2.2]
  congr 1
  by_cases h : y = x1
  · rw [if_pos h, if_pos (by rw [h]; simpa using hp)]
  · rw [if_neg h, if_neg (by simp; intro z; exact absurd z.symm h)]
theorem mKind_nk {k : Int} (h0 : 0 ≤ U 3 w) (hk : 0 ≤ k ∧ k < U 3 w) (h5 : U 5 (w * 16 + k) ≤ q) (h8 : U 8 (w * 16 + k) ≤ q) : mKind (nkU w (w * 16 + U 3 w) x1 p1 x2 p2 q U) w k = mKind U w k := by
  unfold mKind
  rw [nkU_k (f := 4) (by omega) (by omega), nkU_k (f := 5) (by omega) (by omega), nkU_k (f := 7) (by omega) (by omega), nkU_k (f := 8) (by omega) (by omega), kO_nk h0 h5, kO_nk h0 h8]
theorem mKind_nw (h0 : 0 ≤ U 3 w) (h5 : p1 ≤ q) (h8 : p2 ≤ q) : mKind (nkU w (w * 16 + U 3 w) x1 p1 x2 p2 q U) w (U 3 w) = (if kO U w x1 p1 ≠ -1 then [(2, (p1, -1))] else []) ++ (if kO U w x2 p2 = -1 then [(1, (p2, -1))] else []) := by
  unfold mKind
  rw [nkU_v.1, nkU_v.2.1, nkU_v.2.2.1, nkU_v.2.2.2.1, kO_nk h0 h5, kO_nk h0 h8]
theorem par_nk {k : Int} (h0 : 4 ≤ U 3 w) (hk : 0 ≤ k ∧ k < U 3 w) (h8 : 4 ≤ k → U 8 (w * 16 + k) ≤ q) : par (nkU w (w * 16 + U 3 w) x1 p1 x2 p2 q U) w k = par U w k := by
  unfold par
  by_cases h4 : k < 4
  · rw [if_pos h4, if_pos h4]
  · rw [if_neg h4, if_neg h4, nkU_k (f := 7) (by omega) (by omega), nkU_k (f := 8) (by omega) (by omega), kO_nk (by omega) (h8 (by omega))]
theorem par_nw (h0 : 4 ≤ U 3 w) (h8 : p2 ≤ q) : par (nkU w (w * 16 + U 3 w) x1 p1 x2 p2 q U) w (U 3 w) = if kO U w x2 p2 = -1 then 1 else kO U w x2 p2 := by
  unfold par
  rw [if_neg (by omega), nkU_v.2.2.1, nkU_v.2.2.2.1, kO_nk (by omega) h8]
/-- a step of the rows alone -/
theorem run_inv (J : tSt → tSt → Prop) (w0 : 0 ≤ w ∧ w ≤ 1) (st : ∀ S U, PI w S U → QV U → PR w U → tMore S = true → J S U → (tStep w S U).1 52 0 = -1 → J (tStep w S U).1 (tStep w S U).2) : ∀ (d : Nat) (S U : tSt), PI w S U → QV U → PR w U → J S U → (tRun w d S U).1 52 0 = -1 → J (tRun w d S U).1 (tRun w d S U).2 := by
  intro d
  induction d with
  | zero => intro S U _ _ _ p _; exact p
  | succ d ih =>
    intro S U h qv pr p e
    unfold tRun at e ⊢
    by_cases q : tMore S = true
    · rw [if_pos q] at e ⊢
      by_cases z : (tStep w S U).1 52 0 = -1
      · exact ih _ _ (PI_step h) (QV_step h w0 qv) (PR_step h w0.1 qv pr) (st S U h qv pr q p z) e
      · have y : tMore (tStep w S U).1 = false := by unfold tMore; simp only [z, decide_false, Bool.false_and]
        rw [tRun_stay y] at e
        exact absurd e z
    · rw [if_neg q] at e ⊢
      exact p
theorem more_52 (h : tMore S = true) : S 52 0 = -1 := by
  unfold tMore at h
  simp only [Bool.and_eq_true, decide_eq_true_eq] at h
  exact h.1
theorem PL_go {X Y : tSt × tSt} (g : tGo w X Y) (w0 : 0 ≤ w ∧ w ≤ 1) (hP : PI w X.1 X.2) (qv : QV X.2) (pr : PR w X.2) (pl : PL w X.1 X.2) (e : Y.1 52 0 = -1) : PL w Y.1 Y.2 := by
  obtain ⟨n, rfl⟩ := g
  exact run_inv (PL w) w0 (fun S U h q _ m p z => PL_step h m q p (more_52 m) h.2.1.1 z) n _ _ hP qv pr pl e
theorem PK_go {X Y : tSt × tSt} (g : tGo w X Y) (hP : PI w X.1 X.2) (pk : PK w X.1 X.2) (e : Y.1 52 0 = -1) : PK w Y.1 Y.2 := by
  obtain ⟨n, rfl⟩ := g
  exact PK_run n _ _ hP pk e
end KDS
