/-! PURE: what a step is, if it does not fail *-/
/-- a statement comes, with a block or without -/
def EVt (w : Int) (S U S' U' : tSt) : Prop := ∃ (x n : Int) (V U1 : tSt), 1 ≤ S 55 0 ∧ U 19 w ≠ 120 ∧ ENT w (w * 120 + U 19 w) (S 56 (S 55 0 - 1)) x U V ∧ (∀ f, pzF f = true → U1 f = V f) ∧ (U1 3 = U 3 ∧ U1 15 = U 15 ∧ U1 37 = U 37) ∧ (∀ j, j ≠ w * 120 + U 19 w → U1 30 j = U 30 j) ∧ U1 30 (w * 120 + U 19 w) = n ∧ 0 ≤ n ∧
  ((U' = U1 ∧ S' 55 = S 55 ∧ S' 56 = S 56 ∧ n = 0 ∧ x ≠ 9 ∧ (x ≠ 10 ∧ (x ≤ 3 ∨ x = 7 ∨ x = 8)) ∧ S 49 0 + 1 ≤ S' 49 0) ∨
   ∃ what, rsO what x ∧ (what ≠ 3 ∧ what ≠ 6 ∧ what ≠ 7) ∧ S 55 0 < 8 ∧ OPF w (w * 1024 + U1 40 w) what (w * 120 + U 19 w) 0 27 (w * 120 + U 19 w) S S' U1 U' ∧ S' 55 0 = S 55 0 + 1 ∧ (∀ j, S' 56 j = if j = S 55 0 then w * 1024 + U1 40 w else S 56 j) ∧ S 49 0 + 1 + n + (if x = 10 then 3 else 0) ≤ S' 49 0 ∧ (x ≠ 9 → n = 0))
/-- a block ends, names behind it -/
def EVc (w : Int) (S U S' U' : tSt) : Prop := 1 ≤ S 55 0 ∧
  ((∃ n, (∀ f, pzF f = true → U' f = U f) ∧ (U' 3 = U 3 ∧ U' 15 = U 15 ∧ U' 37 = U 37) ∧ (∀ j, j ≠ U 42 (S 56 (S 55 0 - 1)) → U' 30 j = U 30 j) ∧ U' 30 (U 42 (S 56 (S 55 0 - 1))) = U 30 (U 42 (S 56 (S 55 0 - 1))) + n ∧ 0 ≤ n ∧ (n ≠ 0 → U 41 (S 56 (S 55 0 - 1)) = 8) ∧ S' 55 0 = S 55 0 - 1 ∧ S' 56 = S 56 ∧ S 49 0 + 1 + n + (if U 41 (S 56 (S 55 0 - 1)) = 8 then 1 else 0) ≤ S' 49 0) ∨
   (∃ (what : Int) (f : Nat), ((what = 3 ∧ f = 28 ∧ U 41 (S 56 (S 55 0 - 1)) = 2) ∨ (what = 7 ∧ f = 29 ∧ (U 41 (S 56 (S 55 0 - 1)) = 5 ∨ U 41 (S 56 (S 55 0 - 1)) = 6))) ∧ OPF w (w * 1024 + U 40 w) what (U 42 (S 56 (S 55 0 - 1))) 0 f (U 42 (S 56 (S 55 0 - 1))) S S' U U' ∧ S' 55 0 = S 55 0 ∧ (∀ j, S' 56 j = if j = S 55 0 - 1 then w * 1024 + U 40 w else S 56 j) ∧ S 49 0 + 1 ≤ S' 49 0) ∨
   (∃ (n : Int) (V : tSt), (U 41 (S 56 (S 55 0 - 1)) = 5 ∨ U 41 (S 56 (S 55 0 - 1)) = 6) ∧ U 33 (U 42 (S 56 (S 55 0 - 1))) ≠ 4 ∧ (∀ f, pzF f = true → f ≠ 33 → V f = U f) ∧ (∀ j, V 33 j = if j = U 42 (S 56 (S 55 0 - 1)) then U 33 (U 42 (S 56 (S 55 0 - 1))) + 1 else U 33 j) ∧ (V 3 = U 3 ∧ V 15 = U 15 ∧ V 30 = U 30) ∧
     (∀ j, V 37 j = if j = 4 * U 42 (S 56 (S 55 0 - 1)) + U 33 (U 42 (S 56 (S 55 0 - 1))) then n else U 37 j) ∧ 0 ≤ n ∧ OPF w (w * 1024 + V 40 w) 6 (U 42 (S 56 (S 55 0 - 1))) (U 33 (U 42 (S 56 (S 55 0 - 1)))) 34 (4 * U 42 (S 56 (S 55 0 - 1)) + U 33 (U 42 (S 56 (S 55 0 - 1)))) S S' V U' ∧ S' 55 0 = S 55 0 ∧ (∀ j, S' 56 j = if j = S 55 0 - 1 then w * 1024 + V 40 w else S 56 j) ∧ S 49 0 + 1 + n ≤ S' 49 0))
/-- a kind, a method -/
def EVk (w : Int) (S U S' U' : tSt) : Prop := (∀ f, 9 ≤ f → U' f = U f) ∧ U' 3 w = U 3 w + 1 ∧ S' 55 = S 55 ∧ S' 56 = S 56 ∧ S 49 0 + 1 ≤ S' 49 0
def EVw (w : Int) (S U S' U' : tSt) : Prop := U 9 w ≠ 12 ∧ S 55 0 = 0 ∧ ∃ V : tSt, (∀ f, f ≤ 8 ∨ 19 ≤ f → V f = U f) ∧ V 9 w = U 9 w + 1 ∧ (∀ f j, f = 15 ∨ f = 18 → j ≠ w * 12 + U 9 w → V f j = U f j) ∧ V 18 (w * 12 + U 9 w) = -1 ∧ 0 ≤ V 15 (w * 12 + U 9 w) ∧
  ((U' = V ∧ S' 55 = S 55 ∧ S' 56 = S 56 ∧ S 49 0 + 5 + V 15 (w * 12 + U 9 w) ≤ S' 49 0) ∨ (OPF w (w * 1024 + V 40 w) 0 (-1) (U 9 w) 18 (w * 12 + U 9 w) S S' V U' ∧ S' 55 0 = 1 ∧ (∀ j, S' 56 j = if j = S 55 0 then w * 1024 + V 40 w else S 56 j) ∧ S 49 0 + 5 + V 15 (w * 12 + U 9 w) ≤ S' 49 0))
def EV (w : Int) (S U S' U' : tSt) : Prop := (S 55 0 = 0 ∧ EVk w S U S' U') ∨ EVw w S U S' U' ∨ EVt w S U S' U' ∨ EVc w S U S' U'
section EVS
variable {w s b x what own num i : Int} {S X U V U' : tSt} {f : Nat}
theorem tLs_adv {sp : Int} : ∀ (d n : Nat) (S : tSt), SI S → TK S → (tLs sp n d S).1 = true → S 47 0 + (tLs sp n d S).2.2.length ≤ (tLs sp n d S).2.1 49 0 := by
  intro d
  induction d with
  | zero => intro n S _ _ h; cases h
  | succ d ih =>
    intro n S si tk
    have si1 := SI_adv si
    have tk1 := TK_adv si.1
    have a47 := tAdv_47 si
    rw [tLs]
    by_cases h4 : n = 4
    · rw [if_pos h4]; intro h; cases h
    · rw [if_neg h4]
      by_cases nm : tIsN (tAdv S) = true
      · rw [if_pos nm]
        obtain ⟨g53, g54, g47, g49, g50, g51⟩ := tName_g nm
        obtain ⟨si2, tk2, _, _, _, _, m47⟩ := nm_name si1 tk1 nm
        have b47 := tAdv_47 si1
        have w1 : tAdv S 49 0 < tAdv S 47 0 := tk1.2.2.1 (fun y => (tIsN_iff.mp nm).1 (tk1.2.2.2 (by omega)))
        by_cases y : tName (tAdv S) 51 0 = sp
        · rw [if_pos y]
          intro h
          have := ih (n + 1) (tName (tAdv S)) si2 tk2 h
          show S 47 0 + ((((tLs sp (n + 1) d (tName (tAdv S))).2.2.length + 1 : Nat)) : Int) ≤ (tLs sp (n + 1) d (tName (tAdv S))).2.1 49 0
          have t2 := tk2.1
          omega
        · rw [if_neg y]
          intro _
          show S 47 0 + ((1 : Nat) : Int) ≤ tName (tAdv S) 49 0
          omega
      · rw [if_neg nm]; intro h; cases h
theorem opn_ok (si : SI X) (s52 : X 52 0 = -1) (e : (tOpn w what own num f i X V).1 52 0 = -1) : tIsO X = true := by
  apply Classical.byContradiction
  intro o
  rw [tOpn_f o, tFail_52 s52] at e
  have := si.2.1
  omega
theorem opn_d (h : tIsO X = true) : X 55 0 ≠ 8 := (tIsO_iff.mp h).2
theorem oS_6 : oS X b 55 0 = X 55 0 + 1 ∧ ∀ j, oS X b 56 j = if j = X 55 0 then b else X 56 j := oS_v
theorem OPF_mk (h : tIsO X = true) (hf : f < 40) (si : SI X) (tk : TK X) (h49 : S 49 0 ≤ X 49 0) : OPF w (w * 1024 + U 40 w) what own num f i S (oS X (w * 1024 + U 40 w)) U (oU w what own num f i X U) := by
  refine ⟨OPN_mk h hf, ?_, ?_⟩
  · rw [(oU_v h hf).2.2.2.2.1]
    exact h49
  · rw [(oU_v h hf).2.2.2.2.1]
    have := oS_49 (b := w * 1024 + U 40 w) si h
    have := tk.2.2.1 (by rw [(tIsO_iff.mp h).1]; decide)
    omega
end EVS
