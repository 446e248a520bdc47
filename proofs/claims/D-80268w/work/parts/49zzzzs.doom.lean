/-! PURE: a text that will fail *-/
/-- reading goes on to a failure at p -/
def doom (w : Int) (X : tSt × tSt) (p : Int) : Prop := ∃ Y : tSt × tSt, tGo w X Y ∧ Y.1 52 0 = p ∧ p ≠ -1
section DOM
variable {w p b s : Int} {S U : tSt}
theorem doom_go {X Y : tSt × tSt} (g : tGo w X Y) (d : doom w Y p) : doom w X p := by
  obtain ⟨Z, z1, z2, z3⟩ := d
  exact ⟨Z, tGo_trans g z1, z2, z3⟩
theorem fail_52 (h : S 52 0 = -1) : tFail S 52 0 = S 49 0 := by
  unfold tFail
  rw [up_s, if_pos h]
theorem doom_fail (h : S 52 0 = -1) (si : SI S) : doom w (tFail S, U) (S 49 0) := ⟨_, tGo_refl _, fail_52 h, by have := (SI_v si).2.2.1; omega⟩
theorem bad_step (s51 : S 51 0 = -2) (s50 : S 50 0 = 0) : tStep w S U = (tFail S, U) := by
  unfold tStep
  rw [s51, s50]
  split
  · rw [if_neg (by decide), if_neg (by decide)]
  · rw [if_neg (by decide)]
    unfold tStmt
    rw [if_neg]
    intro z
    have z := z.1
    unfold tBegins at z
    rw [s51, s50] at z
    exact absurd z (by decide)
theorem more_of (h : S 52 0 = -1) (h2 : 0 < S 55 0 ∨ S 51 0 ≠ -1) : tMore S = true := by
  unfold tMore
  rw [decide_eq_true h, Bool.true_and]
  rcases h2 with z | z
  · rw [decide_eq_true z, Bool.true_or]
  · rw [decide_eq_true (p := S 51 0 ≠ -1) z, Bool.or_true]
theorem doom_step (h : S 52 0 = -1) (h2 : 0 < S 55 0 ∨ S 51 0 ≠ -1) (d : doom w (tStep w S U) p) : doom w (S, U) p := doom_go (tGo_one (more_of h h2)) d
/-- a token that is none -/
theorem doom_bad (h : S 52 0 = -1) (si : SI S) (tk : TK S) (s51 : S 51 0 = -2) : doom w (S, U) (S 49 0) := by
  refine doom_step h (Or.inr (by omega)) ?_
  rw [bad_step s51 (tk.2.2.2 (by omega))]
  exact doom_fail h si
theorem doom_take {x : Int} (h : S 52 0 = -1) (si : SI S) (ne : S 51 0 ≠ x) : doom w (tTake S x, U) (S 49 0) := by
  unfold tTake
  rw [if_neg ne]
  exact doom_fail h si
theorem doom_shut (h : S 52 0 = -1) (si : SI S) (tk : TK S) (s51 : S 51 0 = -2) : doom w (tShut w b S U) (S 49 0) := by
  have s50 : S 50 0 = 0 := tk.2.2.2 (by omega)
  have bad := doom_bad (w := w) (U := U) h si tk s51
  have tk59 := doom_take (w := w) (U := U) (x := 59) h si (by omega)
  have be : ∀ s z, doom w (tBehind w s z S U) (S 49 0) := fun s z => by
    unfold tBehind
    rw [s50, if_neg (by decide), if_neg (by decide)]
    split
    · exact doom_fail h si
    · exact bad
  unfold tShut
  rw [s50]
  split
  · exact tk59
  · split
    · rw [if_neg (by decide)]
      exact bad
    · split
      · rw [if_neg (by decide)]
        exact tk59
      · split
        · exact be _ _
        · split
          · exact be _ _
          · exact bad
theorem tGo_mono : ∀ (n : Nat) (S U : tSt), PI w S U → (tRun w n S U).1 52 0 = -1 → S 49 0 ≤ (tRun w n S U).1 49 0 := by
  intro n
  induction n with
  | zero => intro S U _ _; exact Int.le_refl _
  | succ n ih =>
    intro S U hP
    rw [tRun]
    by_cases m : tMore S = true
    · rw [if_pos m]
      intro e
      have k := ih _ _ (PI_step hP) e
      rcases Prg_step hP m with z | z
      · exfalso
        have : tMore (tStep w S U).1 = false := by
          unfold tMore
          rw [decide_eq_false z, Bool.false_and]
        rw [tRun_stay this] at e
        exact z e
      · omega
    · rw [if_neg m]
      intro _
      exact Int.le_refl _
theorem tGo_PI {X Y : tSt × tSt} (g : tGo w X Y) (hP : PI w X.1 X.2) : PI w Y.1 Y.2 := by
  obtain ⟨n, rfl⟩ := g
  revert hP
  generalize X.1 = S
  generalize X.2 = U
  revert S U
  induction n with
  | zero => intro S U h; exact h
  | succ n ih =>
    intro S U h
    rw [tRun]
    split
    · exact ih _ _ (PI_step h)
    · exact h
theorem tGo_QV {X Y : tSt × tSt} (g : tGo w X Y) (w0 : 0 ≤ w ∧ w ≤ 1) (hP : PI w X.1 X.2) (q : QV X.2) : QV Y.2 := by
  obtain ⟨n, rfl⟩ := g
  exact QV_run w0 n _ _ hP q
theorem tGo_PR {X Y : tSt × tSt} (g : tGo w X Y) (w0 : 0 ≤ w ∧ w ≤ 1) (hP : PI w X.1 X.2) (q : QV X.2) (p : PR w X.2) : PR w Y.2 := by
  obtain ⟨n, rfl⟩ := g
  exact PR_run w0 n _ _ hP q p
theorem tGo_lt {X Y : tSt × tSt} (g : tGo w (tStep w X.1 X.2) Y) (hP : PI w X.1 X.2) (m : tMore X.1 = true) (e : Y.1 52 0 = -1) : X.1 49 0 < Y.1 49 0 := by
  obtain ⟨n, rfl⟩ := g
  have k := tGo_mono n _ _ (PI_step hP) e
  rcases Prg_step hP m with z | z
  · exfalso
    have : tMore (tStep w X.1 X.2).1 = false := by
      unfold tMore
      rw [decide_eq_false z, Bool.false_and]
    rw [tRun_stay this] at e
    exact z e
  · omega
end DOM
/-! PURE: mistakes when the rows of one statement change -/
section MPX
variable {w s : Int} {U U' : tSt}
theorem tCat_one {α : Type} {f f' : Int → List α} {E : List α} {k : Int} : ∀ (d : Nat) (j : Int), j ≤ k → k < j + d → (∀ i, j ≤ i → i < j + d → i ≠ k → f' i = f i) → (f' k).Perm (f k ++ E) → (tCat f' d j).Perm (tCat f d j ++ E) := by
  intro d
  induction d with
  | zero => intro j h1 h2; omega
  | succ d ih =>
    intro j h1 h2 e p
    rw [tCat_sn, tCat_sn]
    by_cases q : k = j + d
    · rw [tCat_congr (f := f') (g := f) d j (fun i a b => e i a (by omega) (by omega)), ← q, List.append_assoc]
      exact p.append_left _
    · have y := ih j h1 (by omega) (fun i a b c => e i a (by omega) c) p
      rw [e (j + d) (by omega) (by omega) (fun z => q z.symm)]
      refine (y.append_right _).trans ?_
      rw [List.append_assoc, List.append_assoc]
      exact List.perm_append_comm.append_left _
theorem mPar_px {E : List tMi} (h : FX w s U U') (p : PQ w U) (qv : QV U) (w0 : 0 ≤ w ∧ w ≤ 1) (n3 : 4 ≤ U 3 w ∧ U 3 w ≤ 16) (n9 : 0 ≤ U 9 w ∧ U 9 w ≤ 12) (e19 : U' 19 w = U 19 w) (hs : As w U s) (hm : (mPs U' w s).Perm (mPs U w s ++ E)) : (mPar U' w).Perm (mPar U w ++ E) := by
  obtain ⟨s1, s2⟩ := hs
  unfold mPar
  rw [h.fk (f := 3) (by decide) (by omega), h.fk (f := 9) (by decide) (by omega), e19]
  rw [tCat_congr (f := mKind U' w) (g := mKind U w) _ _ (fun k a b => mKind_fx h w0 n3 (by omega)), tCat_congr (f := mPm U' w) (g := mPm U w) _ _ (fun k a b => mPm_fx h w0 n3 n9 qv (by omega)), List.append_assoc, List.append_assoc]
  refine List.Perm.append_left _ (List.Perm.append_left _ ?_)
  refine tCat_one (k := s - w * 120) _ _ (by omega) (by omega) (fun i a b c => mPs_fx h p qv w0 n3 ⟨by omega, by omega⟩ (by omega)) ?_
  rw [show w * 120 + (s - w * 120) = s by omega]
  exact hm
theorem tCat_len {α : Type} {f : Int → List α} {n : Nat} : ∀ (d : Nat) (j : Int), (∀ k, j ≤ k → k < j + d → (f k).length ≤ n) → (tCat f d j).length ≤ n * d := by
  intro d
  induction d with
  | zero => intro j _; exact Nat.zero_le _
  | succ d ih =>
    intro j h
    rw [tCat_sn, List.length_append]
    have a := ih j (fun k a b => h k a (by omega))
    have b := h (j + d) (by omega) (by omega)
    rw [Nat.mul_succ]
    omega
theorem if_len {α : Type} {P : Prop} [Decidable P] {x : α} : (if P then [x] else []).length ≤ 1 := by
  split
  · exact Nat.le_refl 1
  · exact Nat.zero_le 1
theorem mPs_len (qv : QV U) : (mPs U w s).length ≤ 20 := by
  have b33 := QV_b qv (f := 33) (c := 4) rfl rfl rfl s
  have b30 := QV_b qv (f := 30) (c := 4) rfl rfl rfl s
  have b37 := fun c => QV_b qv (f := 37) (c := 4) rfl rfl rfl c
  unfold mPs
  split
  · exact Nat.le_trans if_len (by decide)
  · split
    · unfold mSet
      split
      · simp
      · rw [List.length_append]
        exact Nat.le_trans (Nat.add_le_add if_len if_len) (by decide)
    · split
      · refine Nat.le_trans (tCat_len (n := 5) _ _ (fun k _ _ => ?_)) (by omega)
        rw [List.length_append]
        have a := tCat_len (f := fun i => if cK U w (4 * s + k) i = -1 then [((1 : Int), (U 39 (4 * (4 * s + k) + i), (-1 : Int)))] else []) (n := 1) (U 37 (4 * s + k)).toNat 0 (fun i _ _ => if_len)
        have := b37 (4 * s + k)
        refine Nat.le_trans (Nat.add_le_add if_len a) ?_
        omega
      · split
        · exact Nat.le_trans (tCat_len (n := 1) _ _ (fun k _ _ => if_len)) (by omega)
        · simp
theorem mPar_len (qv : QV U) : (mPar U w).length ≤ 2600 := by
  have b3 := QV_b qv (f := 3) (c := 16) rfl rfl rfl w
  have b9 := QV_b qv (f := 9) (c := 12) rfl rfl rfl w
  have b19 := QV_b qv (f := 19) (c := 120) rfl rfl rfl w
  unfold mPar
  rw [List.length_append, List.length_append]
  have a1 := tCat_len (f := mKind U w) (n := 2) (U 3 w - 4).toNat 4 (fun k _ _ => by
    unfold mKind
    rw [List.length_append]
    exact Nat.add_le_add if_len if_len)
  have a2 := tCat_len (f := mPm U w) (n := 5) (U 9 w).toNat 0 (fun k _ _ => by
    unfold mPm
    rw [List.length_append]
    have b15 := QV_b qv (f := 15) (c := 4) rfl rfl rfl (w * 12 + k)
    have a := tCat_len (f := fun i => if kO U w (U 16 (4 * (w * 12 + k) + i)) (U 17 (4 * (w * 12 + k) + i)) = -1 then [((1 : Int), (U 17 (4 * (w * 12 + k) + i), (-1 : Int)))] else []) (n := 1) (U 15 (w * 12 + k)).toNat 0 (fun i _ _ => if_len)
    refine Nat.le_trans (Nat.add_le_add if_len a) ?_
    omega)
  have a3 := tCat_len (f := fun k => mPs U w (w * 120 + k)) (n := 20) (U 19 w).toNat 0 (fun k _ _ => mPs_len qv)
  omega
end MPX
