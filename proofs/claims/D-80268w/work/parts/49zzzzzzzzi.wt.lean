/-! PURE: how many mistakes a text can have *-/
def sI (f : Int → Int) (n : Nat) (j : Int) : Int := tFor (fun k a => a + f k) n j 0
/-- most mistakes of a statement, of a method -/
def wt (U : tSt) (s : Int) : Int := if U 20 s = 10 then 17 + U 30 s else if U 20 s = 9 then 3 + U 30 s + sI (fun k => 1 + 3 * U 37 (4 * s + k)) (U 33 s).toNat 0 else 3
def wm (U : tSt) (x : Int) : Int := (if U 18 x = -1 then 2 else 18) + U 15 x
def Wt (w : Int) (U : tSt) : Int := 2 * (U 3 w - 4) + sI (fun k => wm U (w * 12 + k)) (U 9 w).toNat 0 + sI (fun k => wt U (w * 120 + k)) (U 19 w).toNat 0
/-- what an open block still has to bring -/
def cr (r : Int) : Int := if r = 8 then 5 else if r = 0 then 3 else 0
def Cr (S U : tSt) : Int := sI (fun i => cr (U 41 (S 56 i))) (S 55 0).toNat 0
def PWt (w : Int) (S U : tSt) : Prop := Wt w U ≤ 3 * S 49 0 + Cr S U
section WTS
variable {w s : Int} {S S' U U' V : tSt} {f g : Int → Int}
theorem sI_sn (n : Nat) (j : Int) : sI f (n + 1) j = sI f n j + f (j + n) := tFor_sn _ n j 0
theorem sI_cg {n : Nat} {j : Int} (h : ∀ k, j ≤ k → k < j + n → f k = g k) : sI f n j = sI g n j := tFor_cg _ _ _ (fun k z a b => by rw [h k a b])
theorem sI_0 {j : Int} : sI f 0 j = 0 := rfl
theorem sI_le : ∀ (n : Nat) (j : Int), (∀ k, j ≤ k → k < j + n → f k ≤ g k) → sI f n j ≤ sI g n j := by
  intro n
  induction n with
  | zero => intro j _; exact Int.le_refl _
  | succ n ih =>
    intro j h
    rw [sI_sn, sI_sn]
    have a := ih j (fun k h1 h2 => h k h1 (by omega))
    have b := h (j + n) (by omega) (by omega)
    omega
theorem sI_one {k d : Int} : ∀ (n : Nat) (j : Int), j ≤ k → k < j + n → (∀ i, j ≤ i → i < j + n → i ≠ k → f i = g i) → f k ≤ g k + d → sI f n j ≤ sI g n j + d := by
  intro n
  induction n with
  | zero => intro j h1 h2; omega
  | succ n ih =>
    intro j h1 h2 h3 h4
    rw [sI_sn, sI_sn]
    by_cases z : k = j + n
    · have a : sI f n j = sI g n j := sI_cg (fun i i0 i1 => h3 i i0 (by omega) (by omega))
      rw [a, ← z]
      omega
    · have a := ih j h1 (by omega) (fun i i0 i1 ne => h3 i i0 (by omega) ne) h4
      have b := h3 (j + n) (by omega) (by omega) (fun q => z q.symm)
      omega
theorem wt_cg (h20 : U' 20 s = U 20 s) (h30 : U' 30 s = U 30 s) (h33 : U' 33 s = U 33 s) (h37 : ∀ k, 0 ≤ k → k < U 33 s → U' 37 (4 * s + k) = U 37 (4 * s + k)) : wt U' s = wt U s := by
  unfold wt
  rw [h20, h30, h33]
  rw [sI_cg (f := fun k => 1 + 3 * U' 37 (4 * s + k)) (g := fun k => 1 + 3 * U 37 (4 * s + k)) (fun k k0 k1 => by rw [h37 k k0 (by omega)])]
theorem Cr_cg (h5 : S' 55 0 = S 55 0) (h : ∀ i, 0 ≤ i → i < S 55 0 → U' 41 (S' 56 i) = U 41 (S 56 i)) : Cr S' U' = Cr S U := by
  unfold Cr
  rw [h5]
  exact sI_cg (fun i i0 i1 => by rw [h i i0 (by omega)])
theorem Cr_sn (d0 : 0 ≤ S 55 0) (h5 : S' 55 0 = S 55 0 + 1) (h : ∀ i, 0 ≤ i → i < S 55 0 → U' 41 (S' 56 i) = U 41 (S 56 i)) : Cr S' U' = Cr S U + cr (U' 41 (S' 56 (S 55 0))) := by
  unfold Cr
  rw [h5, show (S 55 0 + 1).toNat = (S 55 0).toNat + 1 by omega, sI_sn, show (0 : Int) + ((S 55 0).toNat : Int) = S 55 0 by omega, sI_cg (fun i i0 i1 => by rw [h i i0 (by omega)])]
theorem Cr_pop (d1 : 1 ≤ S 55 0) (h5 : S' 55 0 = S 55 0 - 1) (h : ∀ i, 0 ≤ i → i < S 55 0 - 1 → U' 41 (S' 56 i) = U 41 (S 56 i)) : Cr S U = Cr S' U' + cr (U 41 (S 56 (S 55 0 - 1))) := by
  unfold Cr
  rw [show (S 55 0).toNat = (S 55 0 - 1).toNat + 1 by omega, sI_sn, h5, show (0 : Int) + ((S 55 0 - 1).toNat : Int) = S 55 0 - 1 by omega, sI_cg (f := fun i => cr (U' 41 (S' 56 i))) (fun i i0 i1 => by rw [h i i0 (by omega)])]
theorem cr_b (r : Int) : 0 ≤ cr r ∧ cr r ≤ 5 := by unfold cr; split; omega; split <;> omega
theorem PWt_ev (ev : EV w S U S' U') (hP : PI w S U) (w0 : 0 ≤ w) (qv : QV U) (pr : PR w U) (pz : PZ w S U) (p : PWt w S U) : PWt w S' U' := by
  have ab := hP.ab
  have b3 := QV_b qv (f := 3) (c := 16) rfl rfl rfl w
  have b19 := QV_b qv (f := 19) (c := 120) rfl rfl rfl w
  have b9 := QV_b qv (f := 9) (c := 12) rfl rfl rfl w
  have b33 := fun k => QV_b qv (f := 33) (c := 4) rfl rfl rfl k
  have b40 := pr.2.1
  have hd := hP.1.2.2.2.2.2.2.2
  unfold PWt at p ⊢
  rcases ev with ⟨d0, ev⟩ | ev | ev | ev
  · obtain ⟨e1, e2, e3, e4, e5⟩ := ev
    have c : Cr S' U' = Cr S U := Cr_cg (by rw [e3]) (fun i _ _ => by rw [e4, e1 41 (by decide)])
    have h : Wt w U' = Wt w U + 2 := by
      unfold Wt
      rw [e2, e1 9 (by decide), e1 19 (by decide), sI_cg (f := fun k => wm U' (w * 12 + k)) (g := fun k => wm U (w * 12 + k)) (fun k _ _ => by unfold wm; rw [e1 18 (by decide), e1 15 (by decide)]), sI_cg (f := fun k => wt U' (w * 120 + k)) (g := fun k => wt U (w * 120 + k)) (fun k _ _ => wt_cg (by rw [e1 20 (by decide)]) (by rw [e1 30 (by decide)]) (by rw [e1 33 (by decide)]) (fun _ _ _ => by rw [e1 37 (by decide)]))]
      omega
    omega
  · obtain ⟨u9, d0, V, v1, v9, v2, v18, v15, h⟩ := ev
    have hW : ∀ Z : tSt, (∀ f, f = 3 ∨ f = 20 ∨ f = 30 ∨ f = 33 ∨ f = 37 ∨ f = 19 → Z f = V f) → Z 9 w = V 9 w → (∀ j, j ≠ w * 12 + U 9 w → Z 18 j = V 18 j) → Z 15 = V 15 → Wt w Z = Wt w U + wm Z (w * 12 + U 9 w) := fun Z z1 z9 z18 z15 => by
      unfold Wt
      rw [z1 3 (by decide), z1 19 (by decide), z9, v9, v1 3 (by decide), v1 19 (by decide), show (U 9 w + 1).toNat = (U 9 w).toNat + 1 by omega, sI_sn, show (0 : Int) + ((U 9 w).toNat : Int) = U 9 w by omega, sI_cg (f := fun k => wm Z (w * 12 + k)) (g := fun k => wm U (w * 12 + k)) (fun k _ k1 => by unfold wm; rw [z18 _ (by omega), v2 18 _ (by decide) (by omega), z15, v2 15 _ (by decide) (by omega)]), sI_cg (f := fun k => wt Z (w * 120 + k)) (g := fun k => wt U (w * 120 + k)) (fun k _ _ => wt_cg (by rw [z1 20 (by decide), v1 20 (by decide)]) (by rw [z1 30 (by decide), v1 30 (by decide)]) (by rw [z1 33 (by decide), v1 33 (by decide)]) (fun _ _ _ => by rw [z1 37 (by decide), v1 37 (by decide)]))]
      omega
    rcases h with ⟨h1, h2, h3, h4⟩ | ⟨op, h2, h3, h4⟩
    · have c : Cr S' U' = Cr S U := Cr_cg (by rw [h2]) (fun i _ _ => by rw [h3, h1, v1 41 (by decide)])
      have hw := hW V (fun _ _ => rfl) rfl (fun _ _ => rfl) rfl
      rw [h1]
      rw [h1] at c
      unfold wm at hw
      rw [if_pos v18] at hw
      omega
    · obtain ⟨hb, e40, ⟨n41, n42, n43, n45, n46⟩, e4, efi, ej⟩ := op.1
      have vb : V 40 w = U 40 w := by rw [v1 40 (by decide)]
      have hw := hW U' (fun f hf => by funext j; exact ej f j (by omega) (by omega)) (ej 9 w (by decide) (by omega)) (fun j hj => ej 18 j (by decide) (fun z => hj z.2)) (by funext j; exact ej 15 j (by decide) (by omega))
      have c : Cr S' U' = Cr S U + cr (U' 41 (S' 56 (S 55 0))) := Cr_sn hd.1 (by omega) (fun i i0 i1 => by omega)
      rw [h3, if_pos rfl, n41] at c
      unfold wm at hw
      rw [efi, if_neg (by omega), ej 15 _ (by decide) (by omega)] at hw
      have : cr 0 = 3 := rfl
      omega
  · obtain ⟨x, n, V, U1, d1, n19, en, e1, ⟨e3, e15, e37⟩, e30, n30, n0, h⟩ := ev
    obtain ⟨_, v19, ⟨v22, v24, v27, v28, v29, v33, v20⟩, ef, ej, _⟩ := en
    have hW : ∀ Z : tSt, (∀ f, f = 3 ∨ f = 9 ∨ f = 15 ∨ f = 18 ∨ f = 20 ∨ f = 30 ∨ f = 33 ∨ f = 37 ∨ f = 19 → Z f = U1 f) → Wt w Z = Wt w U + (if x = 10 then 17 + n else if x = 9 then 3 + n else 3) := fun Z z => by
      have wn : wt Z (w * 120 + U 19 w) = (if x = 10 then 17 + n else if x = 9 then 3 + n else 3) := by
        unfold wt
        rw [z 20 (by decide), z 30 (by decide), z 33 (by decide), e1 20 rfl, v20, n30, e1 33 rfl, v33]
        show (if x = 10 then 17 + n else if x = 9 then 3 + n + 0 else 3) = _
        rw [Int.add_zero]
      unfold Wt
      rw [z 3 (by decide), z 9 (by decide), z 19 (by decide), e3, e1 9 rfl, ef 9 (by decide), e1 19 rfl, v19, show (U 19 w + 1).toNat = (U 19 w).toNat + 1 by omega, sI_sn, show (0 : Int) + ((U 19 w).toNat : Int) = U 19 w by omega, wn, sI_cg (f := fun k => wm Z (w * 12 + k)) (g := fun k => wm U (w * 12 + k)) (fun k _ k1 => by unfold wm; rw [z 18 (by decide), z 15 (by decide), e15, e1 18 rfl, ef 18 (by decide)]), sI_cg (f := fun k => wt Z (w * 120 + k)) (g := fun k => wt U (w * 120 + k)) (fun k _ k1 => wt_cg (by rw [z 20 (by decide), e1 20 rfl, ej 20 _ (by decide) (by omega)]) (by rw [z 30 (by decide), e30 _ (by omega)]) (by rw [z 33 (by decide), e1 33 rfl, ej 33 _ (by decide) (by omega)]) (fun _ _ _ => by rw [z 37 (by decide), e37]))]
      omega
    rcases h with ⟨h1, h2, h3, h4, h5, ⟨h6, _⟩, h7⟩ | ⟨what, rs, rn, hd8, op, h5, h6, h7, h8⟩
    · have c : Cr S' U' = Cr S U := Cr_cg (by rw [h2]) (fun i _ _ => by rw [h3, h1, e1 41 rfl, ef 41 (by decide)])
      have hw := hW U' (fun _ _ => by rw [h1])
      rw [if_neg h6, if_neg h5] at hw
      omega
    · obtain ⟨hb, e40, ⟨n41, n42, n43, n45, n46⟩, e4, efi, ej'⟩ := op.1
      have vb : U1 40 w = U 40 w := by rw [e1 40 rfl, ef 40 (by decide)]
      have hw := hW U' (fun f hf => by funext j; exact ej' f j (by omega) (by omega))
      have c : Cr S' U' = Cr S U + cr (U' 41 (S' 56 (S 55 0))) := Cr_sn hd.1 h5 (fun i i0 i1 => by
        have a := (ab i i0 i1).2
        rw [h6, if_neg (by omega), e4 41 _ (by decide) (by decide) (by omega), e1 41 rfl, ef 41 (by decide)])
      rw [h6, if_pos rfl, n41] at c
      have cb := cr_b what
      by_cases x10 : x = 10
      · have w8 : what = 8 := by unfold rsO at rs; omega
        have n00 := h8 (by omega)
        rw [if_pos x10] at hw h7
        rw [w8] at c
        have : cr 8 = 5 := rfl
        omega
      · rw [if_neg x10] at hw h7
        by_cases x9 : x = 9
        · rw [if_pos x9] at hw
          omega
        · rw [if_neg x9] at hw
          have n00 := h8 x9
          omega
  · obtain ⟨d1, ev⟩ := ev
    have hb := ab (S 55 0 - 1) (by omega) (by omega)
    have rs : U 41 (S 56 (S 55 0 - 1)) ≠ 0 → rsO (U 41 (S 56 (S 55 0 - 1))) (U 20 (U 42 (S 56 (S 55 0 - 1)))) := fun z => ((pz.1 _ hb).2 z).2
    have oA : U 41 (S 56 (S 55 0 - 1)) ≠ 0 → As w U (U 42 (S 56 (S 55 0 - 1))) := fun z => by
      rcases (pr.1.2.1 _ hb).1 with ⟨y, _⟩ | ⟨_, y, _⟩
      · exact absurd y z
      · exact y
    rcases ev with ⟨n, e1, ⟨e3, e15, e37⟩, e30, n30, n0, n8, h5, h6, h7⟩ | ⟨what, f, h, op, h5, h6, h7⟩ | ⟨n, V, h, u33, e1, e33, ⟨e3, e15, e30⟩, e37, n0, op, h5, h6, h7⟩
    · have c : Cr S U = Cr S' U' + cr (U 41 (S 56 (S 55 0 - 1))) := Cr_pop d1 h5 (fun i _ _ => by rw [h6, e1 41 rfl])
      have hw : Wt w U' ≤ Wt w U + n := by
        unfold Wt
        rw [e3, e1 9 rfl, e1 19 rfl, sI_cg (f := fun k => wm U' (w * 12 + k)) (g := fun k => wm U (w * 12 + k)) (fun k _ k1 => by unfold wm; rw [e15, e1 18 rfl])]
        have eq : ∀ k, k ≠ U 42 (S 56 (S 55 0 - 1)) ∨ n = 0 → wt U' k = wt U k := fun k hk => wt_cg (by rw [e1 20 rfl]) (by
          by_cases z : k = U 42 (S 56 (S 55 0 - 1))
          · rw [z, n30]; omega
          · exact e30 k z) (by rw [e1 33 rfl]) (fun _ _ _ => by rw [e37])
        by_cases nz : n = 0
        · rw [sI_cg (f := fun k => wt U' (w * 120 + k)) (g := fun k => wt U (w * 120 + k)) (fun k _ _ => eq _ (Or.inr nz))]
          omega
        · have r8 := n8 nz
          have y := oA (by omega)
          have r := rs (by omega)
          have x10 : U 20 (U 42 (S 56 (S 55 0 - 1))) = 10 := by unfold rsO at r; omega
          have := sI_one (f := fun k => wt U' (w * 120 + k)) (g := fun k => wt U (w * 120 + k)) (k := U 42 (S 56 (S 55 0 - 1)) - w * 120) (d := n) (U 19 w).toNat 0 (by have := y.1; omega) (by have := y.2; omega) (fun i _ _ ne => eq _ (Or.inl (by omega))) (by
            show wt U' (w * 120 + (U 42 (S 56 (S 55 0 - 1)) - w * 120)) ≤ wt U (w * 120 + (U 42 (S 56 (S 55 0 - 1)) - w * 120)) + n
            rw [show w * 120 + (U 42 (S 56 (S 55 0 - 1)) - w * 120) = U 42 (S 56 (S 55 0 - 1)) by omega]
            unfold wt
            rw [e1 20 rfl, if_pos x10, if_pos x10, n30]
            omega)
          omega
      have cb := cr_b (U 41 (S 56 (S 55 0 - 1)))
      by_cases r8 : U 41 (S 56 (S 55 0 - 1)) = 8
      · rw [if_pos r8] at h7
        omega
      · have nz : n = 0 := Classical.byContradiction (fun z => r8 (n8 z))
        rw [if_neg r8] at h7
        have : cr (U 41 (S 56 (S 55 0 - 1))) ≤ 3 := by unfold cr; rw [if_neg r8]; split <;> omega
        omega
    · obtain ⟨hb', e40, ⟨n41, n42, n43, n45, n46⟩, e4, efi, ej⟩ := op.1
      have c : Cr S' U' = Cr S U := by
        have c1 := Cr_pop (S := S) (U := U) (S' := up S 55 0 (S 55 0 - 1)) (U' := U) d1 up_s (fun i _ _ => by rw [up_n (by decide)])
        have c2 := Cr_sn (S := up S 55 0 (S 55 0 - 1)) (U := U) (S' := S') (U' := U') (by rw [up_s]; omega) (by rw [up_s]; omega) (fun i i0 i1 => by
          rw [up_s] at i1
          have a := (ab i i0 (by omega)).2
          rw [h6, if_neg (by omega), up_n (by decide), e4 41 _ (by decide) (by decide) (by omega)])
        rw [up_s, h6, if_pos rfl, n41] at c2
        have x1 : cr what = 0 := by unfold cr; rw [if_neg (by omega), if_neg (by omega)]
        have x2 : cr (U 41 (S 56 (S 55 0 - 1))) = 0 := by unfold cr; rw [if_neg (by omega), if_neg (by omega)]
        omega
      have ee : ∀ g, g = 3 ∨ g = 9 ∨ g = 15 ∨ g = 18 ∨ g = 19 ∨ g = 20 ∨ g = 30 ∨ g = 33 ∨ g = 37 → U' g = U g := fun g hg => by funext j; exact ej g j (by omega) (by omega)
      have hw : Wt w U' = Wt w U := by
        unfold Wt
        rw [ee 3 (by decide), ee 9 (by decide), ee 19 (by decide), sI_cg (f := fun k => wm U' (w * 12 + k)) (g := fun k => wm U (w * 12 + k)) (fun k _ k1 => by unfold wm; rw [ee 15 (by decide), ee 18 (by decide)]), sI_cg (f := fun k => wt U' (w * 120 + k)) (g := fun k => wt U (w * 120 + k)) (fun k _ _ => wt_cg (by rw [ee 20 (by decide)]) (by rw [ee 30 (by decide)]) (by rw [ee 33 (by decide)]) (fun _ _ _ => by rw [ee 37 (by decide)]))]
      omega
    · obtain ⟨hb', e40, ⟨n41, n42, n43, n45, n46⟩, e4, efi, ej⟩ := op.1
      have vb : V 40 w = U 40 w := by rw [e1 40 rfl (by decide)]
      have y := oA (by omega)
      have r := rs (by omega)
      have x9 : U 20 (U 42 (S 56 (S 55 0 - 1))) = 9 := by unfold rsO at r; omega
      have c : Cr S' U' = Cr S U := by
        have c1 := Cr_pop (S := S) (U := U) (S' := up S 55 0 (S 55 0 - 1)) (U' := U) d1 up_s (fun i _ _ => by rw [up_n (by decide)])
        have c2 := Cr_sn (S := up S 55 0 (S 55 0 - 1)) (U := U) (S' := S') (U' := U') (by rw [up_s]; omega) (by rw [up_s]; omega) (fun i i0 i1 => by
          rw [up_s] at i1
          have a := (ab i i0 (by omega)).2
          rw [h6, if_neg (by omega), up_n (by decide), e4 41 _ (by decide) (by decide) (by omega), e1 41 rfl (by decide)])
        rw [up_s, h6, if_pos rfl, n41] at c2
        have x1 : cr 6 = 0 := rfl
        have x2 : cr (U 41 (S 56 (S 55 0 - 1))) = 0 := by unfold cr; rw [if_neg (by omega), if_neg (by omega)]
        omega
      have ee : ∀ g, g = 3 ∨ g = 9 ∨ g = 15 ∨ g = 18 ∨ g = 19 ∨ g = 20 ∨ g = 30 ∨ g = 33 ∨ g = 37 → U' g = V g := fun g hg => by funext j; exact ej g j (by omega) (by omega)
      have b4 := b33 (U 42 (S 56 (S 55 0 - 1)))
      have hw : Wt w U' ≤ Wt w U + (1 + 3 * n) := by
        unfold Wt
        rw [ee 3 (by decide), ee 9 (by decide), ee 19 (by decide), e3, e1 9 rfl (by decide), e1 19 rfl (by decide), sI_cg (f := fun k => wm U' (w * 12 + k)) (g := fun k => wm U (w * 12 + k)) (fun k _ k1 => by unfold wm; rw [ee 15 (by decide), ee 18 (by decide), e15, e1 18 rfl (by decide)])]
        have := sI_one (f := fun k => wt U' (w * 120 + k)) (g := fun k => wt U (w * 120 + k)) (k := U 42 (S 56 (S 55 0 - 1)) - w * 120) (d := 1 + 3 * n) (U 19 w).toNat 0 (by have := y.1; omega) (by have := y.2; omega) (fun i _ _ ne => by
          have ne' : w * 120 + i ≠ U 42 (S 56 (S 55 0 - 1)) := by omega
          refine wt_cg (by rw [ee 20 (by decide), e1 20 rfl (by decide)]) (by rw [ee 30 (by decide), e30]) (by rw [ee 33 (by decide), e33, if_neg ne']) (fun k k0 k1 => ?_)
          have := b33 (w * 120 + i)
          rw [ee 37 (by decide), e37, if_neg (by omega)]) (by
          show wt U' (w * 120 + (U 42 (S 56 (S 55 0 - 1)) - w * 120)) ≤ wt U (w * 120 + (U 42 (S 56 (S 55 0 - 1)) - w * 120)) + (1 + 3 * n)
          rw [show w * 120 + (U 42 (S 56 (S 55 0 - 1)) - w * 120) = U 42 (S 56 (S 55 0 - 1)) by omega]
          unfold wt
          rw [ee 20 (by decide), e1 20 rfl (by decide), x9, if_neg (by decide), if_pos rfl, if_neg (by decide), if_pos rfl, ee 30 (by decide), e30, ee 33 (by decide), e33, if_pos rfl, show (U 33 (U 42 (S 56 (S 55 0 - 1))) + 1).toNat = (U 33 (U 42 (S 56 (S 55 0 - 1)))).toNat + 1 by omega, sI_sn, show (0 : Int) + ((U 33 (U 42 (S 56 (S 55 0 - 1)))).toNat : Int) = U 33 (U 42 (S 56 (S 55 0 - 1))) by omega, ee 37 (by decide), e37, if_pos rfl]
          rw [sI_cg (f := fun k => 1 + 3 * V 37 (4 * U 42 (S 56 (S 55 0 - 1)) + k)) (g := fun k => 1 + 3 * U 37 (4 * U 42 (S 56 (S 55 0 - 1)) + k)) (fun k _ k1 => by rw [e37, if_neg (by omega)])]
          omega)
        omega
      omega
theorem PWt_go {X Y : tSt × tSt} (g : tGo w X Y) (w0 : 0 ≤ w ∧ w ≤ 1) (hP : PI w X.1 X.2) (qv : QV X.2) (pr : PR w X.2) (pz : PZ w X.1 X.2) (p : PWt w X.1 X.2) (e : Y.1 52 0 = -1) : PWt w Y.1 Y.2 := by
  obtain ⟨n, rfl⟩ := g
  exact (run_inv (fun S U => PZ w S U ∧ PWt w S U) w0 (fun S U h q r m p z => ⟨PZ_ev (ev_step h w0.1 q m z) h w0.1 q r p.1, PWt_ev (ev_step h w0.1 q m z) h w0.1 q r p.1 p.2⟩) n _ _ hP qv pr ⟨pz, p⟩ e).2
end WTS
