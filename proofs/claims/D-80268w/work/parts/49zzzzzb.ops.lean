/-! COMPONENT, 43: a block of a statement in hand *-/
section OPS
variable {R : Nat → Nat} {A Ah A' : Nat → Int → Nat} {T Th T' : Nat → Nat} {w s b b0 p0 c d c1 d1 what num : Int} {v vh v' : vT} {S S' U Uh U1 U3 : tSt} {o : Option Nat} {f : Nat} {i : Int}
theorem tOU_o {own : Int} (h : f < 40 ∨ 46 < f) : tOU w what own num S U f = U f := by
  unfold tOU
  split
  · rw [up_n (by omega), up_n (by omega), up_n (by omega), up_n (by omega), up_n (by omega), up_n (by omega), up_n (by omega)]
  · rfl
theorem tOU_v {own : Int} (h : tIsO S = true) : tOU w what own num S U 40 w = U 40 w + 1 ∧ tOU w what own num S U 41 (tOB w U) = what ∧ tOU w what own num S U 42 (tOB w U) = own ∧ tOU w what own num S U 43 (tOB w U) = num ∧ tOU w what own num S U 44 (tOB w U) = S 49 0 := by
  unfold tOU
  rw [if_pos h]
  simp only [up_eq, true_and, false_and, and_true, and_false, and_self, if_true, if_false, eq_self, Nat.reduceEqDiff, reduceIte]
  try trivial
/-- the rows behind the beginning of a block -/
def oU (w what own num : Int) (f : Nat) (i : Int) (S U : tSt) : tSt := up (tOU w what own num S U) f i (w * 1024 + U 40 w)
theorem tOpn_e {own : Int} (h : tIsO S = true) : tOpn w what own num f i S U = (oS S (w * 1024 + U 40 w), oU w what own num f i S U) := by
  unfold tOpn tOS tOR oU oS tOB
  rw [if_pos h, if_pos h]
theorem tOpn_f {own : Int} (h : ¬ tIsO S = true) : (tOpn w what own num f i S U).1 = tFail S := by
  unfold tOpn tOS
  rw [if_neg h]
/-- a field of the rows that a new block leaves alone -/
theorem oU_o {own : Int} {g : Nat} (h : g < 40 ∨ 46 < g) (hf : g ≠ f) : oU w what own num f i S U g = U g := by
  unfold oU
  rw [up_n hf, tOU_o h]
theorem oU_v {own : Int} (h : tIsO S = true) (hf : f < 40) : oU w what own num f i S U 40 w = U 40 w + 1 ∧ oU w what own num f i S U 41 (w * 1024 + U 40 w) = what ∧ oU w what own num f i S U 42 (w * 1024 + U 40 w) = own ∧ oU w what own num f i S U 43 (w * 1024 + U 40 w) = num ∧ oU w what own num f i S U 44 (w * 1024 + U 40 w) = S 49 0 ∧ oU w what own num f i S U f i = w * 1024 + U 40 w := by
  have y := tOU_v (w := w) (what := what) (own := own) (num := num) (U := U) h
  unfold oU
  rw [up_n (by omega), up_n (by omega), up_n (by omega), up_n (by omega), up_n (by omega), up_s]
  exact ⟨y.1, y.2.1, y.2.2.1, y.2.2.2.1, y.2.2.2.2, rfl⟩
theorem mPs_same (h : FX w s U U1) (pq : PQ w U) (qv : QV U) (w0 : 0 ≤ w ∧ w ≤ 1) (n3 : 4 ≤ U 3 w ∧ U 3 w ≤ 16) (hs : As w U s) (e : ∀ g, 20 ≤ g → g < 40 → g ≠ 24 → g ≠ 27 → g ≠ 28 → g ≠ 29 → g ≠ 34 → U1 g = U g) : mPs U1 w s = mPs U w s := by
  unfold mPs mSet cK
  rw [e 20 (by decide) (by decide) (by decide) (by decide) (by decide) (by decide) (by decide), e 22 (by decide) (by decide) (by decide) (by decide) (by decide) (by decide) (by decide), e 25 (by decide) (by decide) (by decide) (by decide) (by decide) (by decide) (by decide), e 26 (by decide) (by decide) (by decide) (by decide) (by decide) (by decide) (by decide), e 30 (by decide) (by decide) (by decide) (by decide) (by decide) (by decide) (by decide), e 31 (by decide) (by decide) (by decide) (by decide) (by decide) (by decide) (by decide), e 32 (by decide) (by decide) (by decide) (by decide) (by decide) (by decide) (by decide), e 33 (by decide) (by decide) (by decide) (by decide) (by decide) (by decide) (by decide), e 35 (by decide) (by decide) (by decide) (by decide) (by decide) (by decide) (by decide), e 36 (by decide) (by decide) (by decide) (by decide) (by decide) (by decide) (by decide), e 37 (by decide) (by decide) (by decide) (by decide) (by decide) (by decide) (by decide), e 38 (by decide) (by decide) (by decide) (by decide) (by decide) (by decide) (by decide), e 39 (by decide) (by decide) (by decide) (by decide) (by decide) (by decide) (by decide)]
  have k := fun x a => kO_fx h w0 n3 (x := x) (a := a)
  have p := fun x => pO_fx h pq qv w0.1 (x := x) (pq.1 s hs).1
  simp only [k, p]
theorem OP_mk (g : GI R A T w s p0 v S U) (hP : PI w S U) (pr : PR w U) (qv : QV U) (w0 : 0 ≤ w ∧ w ≤ 1) (hs : As w U s) (h : tIsO S = true) (hf : (f = 27 ∨ f = 28 ∨ f = 29) ∧ i = s ∨ f = 34 ∧ 4 * s ≤ i ∧ i < 4 * s + 4)
    (P : PI w (oS S (w * 1024 + U 40 w)) (oU w what s num f i S U) ∧ PR w (oU w what s num f i S U) ∧ QV (oU w what s num f i S U)) : OP w s (w * 1024 + U 40 w) S U (oU w what s num f i S U) := by
  have n9 := hP.2.2.2.2.1
  have n3 := g.2.2.1.2.2.2
  have f4 : f < 40 := by omega
  obtain ⟨o1, o2, o3, o4, o5, o6⟩ := oU_v (w := w) (what := what) (own := s) (num := num) (i := i) (U := U) h f4
  have ee : ∀ g, g < 40 → g ≠ f → oU w what s num f i S U g = U g := fun g h1 h2 => oU_o (Or.inl h1) h2
  have hx : FX w s U (oU w what s num f i S U) := by
    refine FX_up ((FU_tOU FU.refl).fx ?_) (by omega) (by omega) (by omega) ?_
    · rw [tOU_o (by decide)]
      exact Int.le_refl _
    · unfold exm
      omega
  have e19 : oU w what s num f i S U 19 w = U 19 w := by rw [ee 19 (by decide) (by omega)]
  refine ⟨hx, ⟨e19, o1, o3, o5⟩, ⟨ee 20 (by decide) (by omega), ee 33 (by decide) (by omega), ee 26 (by decide) (by omega), ee 25 (by decide) (by omega), ee 30 (by decide) (by omega), ee 22 (by decide) (by omega)⟩, ?_, P⟩
  unfold mPar
  rw [hx.fk (f := 3) (by decide) (by omega), hx.fk (f := 9) (by decide) (by omega), e19]
  rw [tCat_congr (f := mKind (oU w what s num f i S U) w) (g := mKind U w) _ _ (fun k a b => mKind_fx hx w0 n3 (by omega)), tCat_congr (f := mPm (oU w what s num f i S U) w) (g := mPm U w) _ _ (fun k a b => mPm_fx hx w0 n3 n9 qv (by omega))]
  congr 1
  congr 1
  refine tCat_congr _ _ (fun k a b => ?_)
  by_cases z : w * 120 + k = s
  · rw [z]
    exact mPs_same hx pr.1 qv w0 n3 hs (fun g h1 h2 h3 h4 h5 h6 h7 => ee g (by omega) (by omega))
  · exact mPs_fx hx pr.1 qv w0 n3 ⟨by omega, by omega⟩ z
/-- what stands around a new block, without an object of its own -/
theorem AR_in (pr : PR w U) (qv : QV U) (hs : As w U s) (w0 : 0 ≤ w) (h : tIsO S = true) (hw : what = 2 ∨ what = 3 ∨ what = 9) (hf : f < 40) (f22 : f ≠ 22) (hx : FX w s U (oU w what s num f i S U)) (ar : AR v A U (U 22 s + 2).toNat (U 22 s) o) : AR v A (oU w what s num f i S U) (w * 1024 + U 40 w + 2).toNat (w * 1024 + U 40 w) o := by
  obtain ⟨o1, o2, o3, o4, o5, o6⟩ := oU_v (w := w) (what := what) (own := s) (num := num) (i := i) (U := U) h hf
  have ab := (pr.1.1 s hs).1
  have ab1 := ab.1
  have ab2 := ab.2
  have nb := pr.2.1
  have e22 : oU w what s num f i S U 22 = U 22 := oU_o (by decide) (Ne.symm f22)
  rw [show (w * 1024 + U 40 w + 2).toNat = (w * 1024 + U 40 w + 1).toNat + 1 by omega, AR]
  refine ⟨by omega, Or.inr (Or.inl ⟨by rw [o2]; exact hw, by rw [o3]; have := hs.1; omega, ?_⟩)⟩
  rw [o3, e22]
  exact AR_mono _ _ _ _ (by omega) (AR_fx hx pr.1 qv _ _ _ ab ar)
/-- behind a block -/
theorem CX.blk (x : CX R w b0 Ah Th vh Uh A T v U c d) (h : FX w s U U1) (e19 : U1 19 w = U 19 w) (hs : 120 * w + Uh 19 w ≤ s) (h0 : 0 ≤ s) (w0 : 0 ≤ w) (n0 : 0 ≤ Uh 19 w)
    (mx : MX R T v v' c1 d1) (ae : AE w U A A' T T') (ts : ∀ a, a < hN v.1 → T' a = T a) (fu : FU w U1 U3) (nw : ∀ k, As w U3 k → ¬ As w U k → w * 1024 + U 40 w ≤ U3 22 k) : CX R w b0 Ah Th vh Uh A' T' v' U3 (c + c1) (d + d1) := by
  obtain ⟨y1, y2, y3, y4, y5, y6, y7⟩ := x.fx h e19 hs h0 w0 n0
  obtain ⟨x1, x2, x3, x4, x5, x6, x7⟩ := x
  have l1 := fu.1
  refine ⟨x1.trans mx x3, x2.trans x4 ae, fun a ha => by rw [ts a (by have := x1.1.1; omega), x3 a ha], y4.trans fu, by omega, ?_, fun k hk hk2 hk3 => ?_⟩
  · rw [fu.fs (f := 22) ⟨by omega, by omega⟩ (by decide) (by decide) (by decide)]
    exact y6
  · by_cases z : As w U1 k
    · rw [fu.fs (f := 22) z (by decide) (by decide) (by decide)]
      exact y7 k z hk2 hk3
    · have := nw k hk (fun q => z ⟨q.1, by have := q.2; omega⟩)
      have := x4.2.1
      omega
end OPS
