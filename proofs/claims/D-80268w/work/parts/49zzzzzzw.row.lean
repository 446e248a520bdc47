/-! COMPONENT, 90: rows of kinds and statements stay, those of methods do not matter *-/
section ROW
variable {R : Nat → Nat} {w x b s c y a : Int} {U U' S : tSt} {v : vT} {A : Nat → Int → Nat} {T : Nat → Nat} {oc : Int → Option Nat} {cl : Int → List (Option Nat)}
/-- all rows but those of methods -/
def EM (U U' : tSt) : Prop := ∀ f, f ≤ 8 ∨ 19 ≤ f → U' f = U f
/-- the rows with those of methods wiped -/
def mskM (U : tSt) : tSt := fun f => if f ≤ 8 ∨ 19 ≤ f then U f else fun _ => 0
theorem EM.msk (e : EM U U') : mskM U' = mskM U := by
  funext f
  unfold mskM
  by_cases h : f ≤ 8 ∨ 19 ≤ f
  · rw [if_pos h, if_pos h, e f h]
  · rw [if_neg h, if_neg h]
theorem msk_kO : kO (mskM U) w y a = kO U w y a := rfl
theorem msk_tPO : ∀ (d : Nat) (b : Int) (p : Bool), tPO (mskM U) x d b p = tPO U x d b p := by
  intro d
  induction d with
  | zero => intro b p; rfl
  | succ d ih =>
    intro b p
    show (if b = -1 then (-1, p) else if U 41 b = 6 ∧ U 35 (4 * U 42 b + U 43 b) = x then (4 * U 42 b + U 43 b, p) else tPO (mskM U) x d (if U 42 b = -1 then -1 else U 22 (U 42 b)) (p || decide (U 41 b = 1) || decide (U 41 b = 8))) = (if b = -1 then (-1, p) else if U 41 b = 6 ∧ U 35 (4 * U 42 b + U 43 b) = x then (4 * U 42 b + U 43 b, p) else tPO U x d (if U 42 b = -1 then -1 else U 22 (U 42 b)) (p || decide (U 41 b = 1) || decide (U 41 b = 8)))
    rw [ih]
theorem msk_pO : pO (mskM U) x b = pO U x b := msk_tPO _ _ _
theorem msk_tTg : ∀ (d : Nat) (b : Int), tTg (mskM U) d b = tTg U d b := by
  intro d
  induction d with
  | zero => intro b; rfl
  | succ d ih =>
    intro b
    show (if U 41 b = 0 ∨ U 41 b = 1 ∨ U 41 b = 8 then -1 else if U 41 b = 4 then U 42 b else tTg (mskM U) d (U 22 (U 42 b))) = (if U 41 b = 0 ∨ U 41 b = 1 ∨ U 41 b = 8 then -1 else if U 41 b = 4 then U 42 b else tTg U d (U 22 (U 42 b)))
    rw [ih]
theorem msk_tgt : tgt (mskM U) s = tgt U s := msk_tTg _ _
theorem msk_tTr : ∀ (d : Nat) (b : Int), tTr (mskM U) d b = tTr U d b := by
  intro d
  induction d with
  | zero => intro b; rfl
  | succ d ih =>
    intro b
    show (if U 41 b = 0 ∨ U 41 b = 1 ∨ U 41 b = 8 then [] else if U 41 b = 4 then [] else (if U 41 b = 5 ∨ U 41 b = 6 then [U 42 b] else []) ++ tTr (mskM U) d (U 22 (U 42 b))) = (if U 41 b = 0 ∨ U 41 b = 1 ∨ U 41 b = 8 then [] else if U 41 b = 4 then [] else (if U 41 b = 5 ∨ U 41 b = 6 then [U 42 b] else []) ++ tTr U d (U 22 (U 42 b)))
    rw [ih]
theorem kO_em (e : EM U U') : kO U' w y a = kO U w y a := by rw [← msk_kO (U := U'), e.msk]; rfl
theorem pO_em (e : EM U U') : pO U' x b = pO U x b := by rw [← msk_pO (U := U'), e.msk, msk_pO]
theorem tgt_em (e : EM U U') : tgt U' s = tgt U s := by rw [← msk_tgt (U := U'), e.msk, msk_tgt]
theorem tTr_em (e : EM U U') {d : Nat} : tTr U' d b = tTr U d b := by rw [← msk_tTr (U := U'), e.msk, msk_tTr]
theorem FS_em (e : EM U U') (f : FS v A T U w oc cl s) : FS v A T U' w oc cl s := by
  unfold FS at f ⊢
  simp only [kO_em e, pO_em e, tgt_em e, tTr_em e, e 20 (by decide), e 22 (by decide), e 25 (by decide), e 26 (by decide), e 27 (by decide), e 28 (by decide), e 29 (by decide), e 30 (by decide), e 31 (by decide), e 32 (by decide), e 33 (by decide)]
  exact f
theorem FB_em (e : EM U U') (f : FB v A T U w b) : FB v A T U' w b := by
  unfold FB stL at f ⊢
  rw [e 44 (by decide), e 19 (by decide), e 22 (by decide)]
  exact f
theorem CF_em (e : EM U U') (f : CF v A T U w c) : CF v A T U' w c := by
  unfold CF cK at f ⊢
  simp only [kO_em e, e 35 (by decide), e 37 (by decide), e 38 (by decide), e 39 (by decide)]
  exact f
theorem LB_em (e : EM U U') (f : LB v A T U w s) : LB v A T U' w s := by
  unfold LB stL at f ⊢
  simp only [tgt_em e, e 19 (by decide), e 20 (by decide)]
  exact f
theorem isS_em (e : EM U U') : isS U' w c = isS U w c := by
  unfold isS
  simp only [pO_em e, e 19 (by decide), e 20 (by decide), e 22 (by decide), e 25 (by decide)]
theorem GL_em (e : EM U U') (f : GL R A T w v U) : GL R A T w v U' := by
  unfold GL stL isO at f ⊢
  simp only [pO_em e, e 19 (by decide), e 20 (by decide), e 22 (by decide), e 25 (by decide), e 26 (by decide)]
  exact f
theorem mPs_em (e : EM U U') : mPs U' w s = mPs U w s := by
  unfold mPs mSet cK
  simp only [kO_em e, pO_em e, e 20 (by decide), e 22 (by decide), e 25 (by decide), e 26 (by decide), e 30 (by decide), e 31 (by decide), e 32 (by decide), e 33 (by decide), e 35 (by decide), e 36 (by decide), e 37 (by decide), e 38 (by decide), e 39 (by decide)]
theorem mKind_em (e : EM U U') : mKind U' w c = mKind U w c := by
  unfold mKind
  simp only [kO_em e, e 4 (by decide), e 5 (by decide), e 7 (by decide), e 8 (by decide)]
end ROW
