/-! COMPONENT, 91: the top level: rows of statements stay, kinds and methods may come *-/
section EKS
variable {R : Nat → Nat} {w x b s c y a : Int} {U U' S : tSt} {v : vT} {A A' : Nat → Int → Nat} {T : Nat → Nat} {oc : Int → Option Nat} {cl : Int → List (Option Nat)}
/-- the rows of statements and blocks are the same -/
def EK (U U' : tSt) : Prop := ∀ f, 19 ≤ f → U' f = U f
def mskS (U : tSt) : tSt := fun f => if 19 ≤ f then U f else fun _ => 0
theorem EK.msk (e : EK U U') : mskS U' = mskS U := by
  funext f
  unfold mskS
  by_cases h : 19 ≤ f
  · rw [if_pos h, if_pos h, e f h]
  · rw [if_neg h, if_neg h]
theorem mkS_tPO : ∀ (d : Nat) (b : Int) (p : Bool), tPO (mskS U) x d b p = tPO U x d b p := by
  intro d
  induction d with
  | zero => intro b p; rfl
  | succ d ih =>
    intro b p
    show (if b = -1 then (-1, p) else if U 41 b = 6 ∧ U 35 (4 * U 42 b + U 43 b) = x then (4 * U 42 b + U 43 b, p) else tPO (mskS U) x d (if U 42 b = -1 then -1 else U 22 (U 42 b)) (p || decide (U 41 b = 1) || decide (U 41 b = 8))) = (if b = -1 then (-1, p) else if U 41 b = 6 ∧ U 35 (4 * U 42 b + U 43 b) = x then (4 * U 42 b + U 43 b, p) else tPO U x d (if U 42 b = -1 then -1 else U 22 (U 42 b)) (p || decide (U 41 b = 1) || decide (U 41 b = 8)))
    rw [ih]
theorem mkS_tTg : ∀ (d : Nat) (b : Int), tTg (mskS U) d b = tTg U d b := by
  intro d
  induction d with
  | zero => intro b; rfl
  | succ d ih =>
    intro b
    show (if U 41 b = 0 ∨ U 41 b = 1 ∨ U 41 b = 8 then -1 else if U 41 b = 4 then U 42 b else tTg (mskS U) d (U 22 (U 42 b))) = (if U 41 b = 0 ∨ U 41 b = 1 ∨ U 41 b = 8 then -1 else if U 41 b = 4 then U 42 b else tTg U d (U 22 (U 42 b)))
    rw [ih]
theorem mkS_tTr : ∀ (d : Nat) (b : Int), tTr (mskS U) d b = tTr U d b := by
  intro d
  induction d with
  | zero => intro b; rfl
  | succ d ih =>
    intro b
    show (if U 41 b = 0 ∨ U 41 b = 1 ∨ U 41 b = 8 then [] else if U 41 b = 4 then [] else (if U 41 b = 5 ∨ U 41 b = 6 then [U 42 b] else []) ++ tTr (mskS U) d (U 22 (U 42 b))) = (if U 41 b = 0 ∨ U 41 b = 1 ∨ U 41 b = 8 then [] else if U 41 b = 4 then [] else (if U 41 b = 5 ∨ U 41 b = 6 then [U 42 b] else []) ++ tTr U d (U 22 (U 42 b)))
    rw [ih]
theorem pO_ek (e : EK U U') : pO U' x b = pO U x b := by
  unfold pO
  rw [← mkS_tPO (U := U'), e.msk, mkS_tPO]
theorem tgt_ek (e : EK U U') : tgt U' s = tgt U s := by
  unfold tgt
  rw [← mkS_tTg (U := U'), e.msk, mkS_tTg, e 22 (by decide)]
theorem tTr_ek (e : EK U U') {d : Nat} : tTr U' d b = tTr U d b := by rw [← mkS_tTr (U := U'), e.msk, mkS_tTr]
theorem NL_cg {l : Nat} {n : Int} {kf kf' pf pf' : Int → Int} {B B' : Int → Nat} (x : NL v B l n kf pf) (h : ∀ i, 0 ≤ i → i < n → optA B' (kf' i) = optA B (kf i) ∧ pf' i = pf i) : NL v B' l n kf' pf' := by
  obtain ⟨x1, x2, x3, x4⟩ := x
  refine ⟨x1, x2, x3, fun i i0 i1 => ?_⟩
  obtain ⟨e, e1, e2, e3, e4⟩ := x4 i i0 i1
  rw [(h i i0 i1).1, (h i i0 i1).2]
  exact ⟨e, e1, e2, e3, e4⟩
theorem FS_ek (e : EK U U') (e2 : A' 2 = A 2) (e3 : A' 3 = A 3) (e4 : A' 4 = A 4) (k2 : U 20 s = 2 → optA (A' 0) (kO U' w (U 25 s) (U 26 s)) = optA (A 0) (kO U w (U 25 s) (U 26 s)))
    (ka : ∀ i, 0 ≤ i → i < U 30 s → optA (A' 0) (kO U' w (U 31 (4 * s + i)) (U 32 (4 * s + i))) = optA (A 0) (kO U w (U 31 (4 * s + i)) (U 32 (4 * s + i)))) (f : FS v A T U w oc cl s) : FS v A' T U' w oc cl s := by
  unfold FS at f ⊢
  simp only [e2, e3, e4, pO_ek e, tgt_ek e, tTr_ek e, e 20 (by decide), e 22 (by decide), e 25 (by decide), e 26 (by decide), e 27 (by decide), e 28 (by decide), e 29 (by decide), e 30 (by decide), e 31 (by decide), e 32 (by decide), e 33 (by decide)]
  obtain ⟨f0, f3, f1, f2, f4, f5, f7, f9, fa, fb, fn⟩ := f
  refine ⟨f0, f3, f1, fun q => ?_, f4, f5, f7, f9, fun q => ?_, fb, fn⟩
  · obtain ⟨a1, a2, a3⟩ := f2 q
    rw [k2 q]
    exact ⟨a1, a2, a3⟩
  · obtain ⟨a1, a2, l, a3, a4, a5⟩ := fa q
    exact ⟨a1, a2, l, a3, a4, NL_cg a5 (fun i i0 i1 => ⟨ka i i0 i1, rfl⟩)⟩
theorem FB_ek (e : EK U U') (e2 : A' 2 = A 2) (e3 : A' 3 = A 3) (f : FB v A T U w b) : FB v A' T U' w b := by
  unfold FB stL at f ⊢
  rw [e 44 (by decide), e 19 (by decide), e 22 (by decide), e2, e3]
  exact f
theorem CF_ek (e : EK U U') (e2 : A' 2 = A 2) (e4 : A' 4 = A 4) (k : ∀ i, 0 ≤ i → i < U 37 c → optA (A' 0) (kO U' w (U 38 (4 * c + i)) (U 39 (4 * c + i))) = optA (A 0) (kO U w (U 38 (4 * c + i)) (U 39 (4 * c + i)))) (f : CF v A T U w c) : CF v A' T U' w c := by
  unfold CF cK at f ⊢
  simp only [e2, e4, e 35 (by decide), e 37 (by decide), e 38 (by decide), e 39 (by decide)]
  obtain ⟨f1, f2, f3, f4, l, f5, f6, f7⟩ := f
  exact ⟨f1, f2, f3, f4, l, f5, f6, NL_cg f7 (fun i i0 i1 => ⟨k i i0 i1, rfl⟩)⟩
theorem LB_ek (e : EK U U') (e2 : A' 2 = A 2) (e5 : A' 5 = A 5) (f : LB v A T U w s) : LB v A' T U' w s := by
  unfold LB stL at f ⊢
  simp only [tgt_ek e, e 19 (by decide), e 20 (by decide), e2, e5]
  exact f
theorem isS_ek (e : EK U U') : isS U' w c = isS U w c := by
  unfold isS
  simp only [pO_ek e, e 19 (by decide), e 20 (by decide), e 22 (by decide), e 25 (by decide)]
theorem GL_ek (e : EK U U') (e2 : A' 2 = A 2) (f : GL R A T w v U) : GL R A' T w v U' := by
  unfold GL stL isO at f ⊢
  simp only [pO_ek e, e2, e 19 (by decide), e 20 (by decide), e 22 (by decide), e 25 (by decide), e 26 (by decide)]
  exact f
theorem mPs_ek (e : EK U U') (k2 : U 20 s = 2 → kO U' w (U 25 s) (U 26 s) = kO U w (U 25 s) (U 26 s))
    (ka : ∀ i, 0 ≤ i → i < U 30 s → kO U' w (U 31 (4 * s + i)) (U 32 (4 * s + i)) = kO U w (U 31 (4 * s + i)) (U 32 (4 * s + i))) (kc : ∀ k, 0 ≤ k → k < U 33 s → ∀ i, 0 ≤ i → i < U 37 (4 * s + k) → kO U' w (U 38 (4 * (4 * s + k) + i)) (U 39 (4 * (4 * s + k) + i)) = kO U w (U 38 (4 * (4 * s + k) + i)) (U 39 (4 * (4 * s + k) + i))) : mPs U' w s = mPs U w s := by
  unfold mPs mSet cK
  simp only [pO_ek e, e 20 (by decide), e 22 (by decide), e 25 (by decide), e 26 (by decide), e 30 (by decide), e 31 (by decide), e 32 (by decide), e 33 (by decide), e 35 (by decide), e 36 (by decide), e 37 (by decide), e 38 (by decide), e 39 (by decide)]
  by_cases q2 : U 20 s = 2
  · rw [if_pos q2, if_pos q2, k2 q2]
  · rw [if_neg q2, if_neg q2]
    by_cases q3 : U 20 s = 3
    · rw [if_pos q3, if_pos q3]
    · rw [if_neg q3, if_neg q3]
      by_cases q9 : U 20 s = 9
      · rw [if_pos q9, if_pos q9]
        refine tCat_congr _ _ (fun i i0 i1 => ?_)
        congr 1
        refine tCat_congr _ _ (fun k k0 k1 => ?_)
        rw [kc i i0 (by omega) k k0 (by omega)]
      · rw [if_neg q9, if_neg q9]
        by_cases qa : U 20 s = 10
        · rw [if_pos qa, if_pos qa]
          refine tCat_congr _ _ (fun k k0 k1 => ?_)
          rw [ka k k0 (by omega)]
        · rw [if_neg qa, if_neg qa]
end EKS
