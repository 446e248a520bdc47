/-! PURE: no kind and no method bears a keyword as its name *-/
def NK (w : Int) (U : tSt) : Prop := (∀ k, 0 ≤ k → k < U 3 w → tKw (U 4 (w * 16 + k)) = false) ∧ ∀ k, 0 ≤ k → k < U 9 w → tKw (U 10 (w * 12 + k)) = false
/-- a row stays -/
def EG (f0 : Nat) (U V : tSt) : Prop := V f0 = U f0
section NKS
variable {w : Int} {S U V : tSt} {f f0 : Nat} {j x : Int}
theorem EG_up (h : EG f0 U V) (h1 : f0 ≠ f) : EG f0 U (up V f j x) := by
  unfold EG at *
  rw [up_n h1]
  exact h
theorem EG_opn {what own num s : Int} (hf : f0 < 40) (h : EG f0 U V) (h1 : f0 ≠ f) : EG f0 U (tOpn w what own num f s S V).2 := by
  show EG f0 U (up (tOU w what own num S V) f s (tOR w S V))
  refine EG_up ?_ h1
  unfold tOU
  split
  · exact EG_up (EG_up (EG_up (EG_up (EG_up (EG_up (EG_up h (by omega)) (by omega)) (by omega)) (by omega)) (by omega)) (by omega)) (by omega)
  · exact h
theorem EG_nam {s u : Int} {d : Nat} (hf : f0 < 18) (h : EG f0 U V) : EG f0 U (tNam s u d S V).2.2 := by
  unfold EG at *
  rw [tNam_u f0 (by omega) (by omega) (by omega)]
  exact h
theorem EG_cau {c : Int} {d : Nat} (hf : f0 < 18) (h : EG f0 U V) : EG f0 U (tCau c d S V).2.2 := by
  unfold EG at *
  rw [tCau_u f0 (by omega) (by omega) (by omega)]
  exact h
theorem EG_enter {s b : Int} (hf : f0 < 18) (h : EG f0 U V) : EG f0 U (tEnter w s b S V) := by
  unfold tEnter tLink
  have q1 : EG f0 U (up (up (up (up (up (up (up (up (up (up (up V 19 w (V 19 w + 1)) 21 s (S 49 0)) 22 s b) 23 s (V 9 w - 1)) 24 s (-1)) 25 s 0) 27 s (-1)) 28 s (-1)) 29 s (-1)) 30 s 0) 33 s 0) := by
    repeat (refine EG_up ?_ (by omega))
    exact h
  split
  · exact EG_up (EG_up q1 (by omega)) (by omega)
  · exact EG_up (EG_up q1 (by omega)) (by omega)
theorem EG_stmt2 {s x : Int} (hf : f0 < 18) (h : EG f0 U V) : EG f0 U (tStmt2 w s x S V).2 := by
  unfold tStmt2
  split
  · exact EG_up h (by omega)
  · split
    · split
      · unfold tStmt3
        split
        · exact EG_opn (by omega) (EG_up (EG_up (EG_up h (by omega)) (by omega)) (by omega)) (by omega)
        · exact EG_up (EG_up (EG_up h (by omega)) (by omega)) (by omega)
      · exact EG_up h (by omega)
    · split
      · exact EG_opn (by omega) (EG_up h (by omega)) (by omega)
      · split
        · exact EG_opn (by omega) (EG_up h (by omega)) (by omega)
        · split
          · split
            · exact EG_opn (by omega) (EG_nam hf (EG_up h (by omega))) (by omega)
            · exact EG_nam hf (EG_up h (by omega))
          · exact EG_opn (by omega) (EG_up h (by omega)) (by omega)
theorem EG_stmt (hf : f0 < 18) (h : EG f0 U V) : EG f0 U (tStmt w S V).2 := by
  unfold tStmt
  split
  · split
    · exact EG_opn (by omega) (EG_up (EG_enter hf h) (by omega)) (by omega)
    · exact EG_stmt2 hf (EG_enter hf h)
  · exact h
theorem EG_catch {s : Int} (hf : f0 < 18) (h : EG f0 U V) : EG f0 U (tCatch w s S V).2 := by
  unfold tCatch
  split
  · exact h
  · have q1 : EG f0 U (up V 37 (4 * s + V 33 s) 0) := EG_up h (by omega)
    split
    · split
      · unfold tCatch2
        split
        · have q2 : EG f0 U (tCau (4 * s + V 33 s) 5 (tAdv S) (up V 37 (4 * s + V 33 s) 0)).2.2 := EG_cau hf q1
          unfold tCatch3
          split
          · exact EG_opn (by omega) (EG_up (EG_up (EG_up q2 (by omega)) (by omega)) (by omega)) (by omega)
          · exact EG_up (EG_up q2 (by omega)) (by omega)
        · exact EG_cau hf q1
      · exact EG_cau hf q1
    · exact q1
theorem EG_behind {s : Int} {b : Bool} (hf : f0 < 18) (h : EG f0 U V) : EG f0 U (tBehind w s b S V).2 := by
  unfold tBehind
  split
  · exact EG_catch hf h
  · split
    · exact EG_opn (by omega) h (by omega)
    · split <;> exact h
theorem EG_close (hf : f0 < 18) (h : EG f0 U V) : EG f0 U (tClose w S V).2 := by
  unfold tClose tShut
  split
  · exact h
  · split
    · split
      · exact EG_opn (by omega) h (by omega)
      · exact h
    · split
      · split
        · exact EG_nam hf h
        · exact h
      · split
        · exact EG_behind hf h
        · split
          · exact EG_behind hf h
          · exact h
/-- ways: rows 3, 4, 10 stay, 9 may grow -/
def EWy (w : Int) (U V : tSt) : Prop := V 3 = U 3 ∧ V 4 = U 4 ∧ V 10 = U 10 ∧ (V 9 = U 9 ∨ V 9 = up U 9 w (U 9 w + 1) 9)
theorem EW_way4 (h : V 3 = U 3 ∧ V 4 = U 4 ∧ V 10 = U 10 ∧ V 9 = U 9) : EWy w U (tWay4 w x S V).2 := by
  obtain ⟨a, b, c, d⟩ := h
  have g : (up V 9 w (V 9 w + 1)) 3 = U 3 ∧ (up V 9 w (V 9 w + 1)) 4 = U 4 ∧ (up V 9 w (V 9 w + 1)) 10 = U 10 ∧ (up V 9 w (V 9 w + 1)) 9 = up U 9 w (U 9 w + 1) 9 := by
    refine ⟨by rw [up_n (by decide)]; exact a, by rw [up_n (by decide)]; exact b, by rw [up_n (by decide)]; exact c, ?_⟩
    funext i
    rw [up_eq, up_eq, d]
  unfold tWay4
  split
  · exact ⟨g.1, g.2.1, g.2.2.1, Or.inr g.2.2.2⟩
  · have o : ∀ f, f < 18 → (tOpn w 0 (-1) (V 9 w + 1 - 1) 18 x S (up V 9 w (V 9 w + 1))).2 f = up V 9 w (V 9 w + 1) f := fun f hf => EG_opn (f0 := f) (by omega) rfl (by omega)
    exact ⟨(o 3 (by decide)).trans g.1, (o 4 (by decide)).trans g.2.1, (o 10 (by decide)).trans g.2.2.1, Or.inr ((o 9 (by decide)).trans g.2.2.2)⟩
theorem EW_way3 (h : V 3 = U 3 ∧ V 4 = U 4 ∧ V 10 = U 10 ∧ V 9 = U 9) : EWy w U (tWay3 w x S V).2 := by
  have t : (tThr x 5 S V).2.2 3 = U 3 ∧ (tThr x 5 S V).2.2 4 = U 4 ∧ (tThr x 5 S V).2.2 10 = U 10 ∧ (tThr x 5 S V).2.2 9 = U 9 := by
    rw [tThr_u 3 (by decide) (by decide) (by decide), tThr_u 4 (by decide) (by decide) (by decide), tThr_u 10 (by decide) (by decide) (by decide), tThr_u 9 (by decide) (by decide) (by decide)]
    exact h
  unfold tWay3
  split
  · split
    · exact EW_way4 t
    · exact ⟨t.1, t.2.1, t.2.2.1, Or.inl t.2.2.2⟩
  · exact EW_way4 h
theorem EW_up (h : V 3 = U 3 ∧ V 4 = U 4 ∧ V 10 = U 10 ∧ V 9 = U 9) (h1 : 11 ≤ f) : up V f j x 3 = U 3 ∧ up V f j x 4 = U 4 ∧ up V f j x 10 = U 10 ∧ up V f j x 9 = U 9 := by
  rw [up_n (by omega), up_n (by omega), up_n (by omega), up_n (by omega)]
  exact h
theorem EW_way2 (h : V 3 = U 3 ∧ V 4 = U 4 ∧ V 10 = U 10 ∧ V 9 = U 9) : EWy w U (tWay2 w x S V).2 := by
  unfold tWay2
  split
  · exact EW_way3 (EW_up h (by decide))
  · exact EW_way3 (EW_up h (by decide))
theorem EW_way1 (h : V 3 = U 3 ∧ V 4 = U 4 ∧ V 10 = U 10 ∧ V 9 = U 9) : EWy w U (tWay1 w x S V).2 := by
  unfold tWay1
  split
  · split
    · exact EW_way2 (EW_up (EW_up h (by decide)) (by decide))
    · exact ⟨h.1, h.2.1, h.2.2.1, Or.inl h.2.2.2⟩
  · exact EW_way2 h
theorem nm_kw (n : tIsN S = true) : tKw (tName S 53 0) = false := by
  rw [(tName_g n).1]
  have := (tIsN_iff.mp n).2
  simpa using this
theorem NK_way (h : NK w U) : NK w (tWay w S U).2 := by
  unfold tWay
  split
  · exact h
  · split
    · rename_i n
      have kw := nm_kw n
      generalize tName (tAdv S) 53 0 = W at *
      obtain ⟨e3, e4, e10, e9⟩ := EW_way1 (w := w) (x := w * 12 + U 9 w) (S := tName (tAdv S)) (U := (up (up (up (up (up U 10 (w * 12 + U 9 w) W) 11 (w * 12 + U 9 w) (tName (tAdv S) 54 0)) 12 (w * 12 + U 9 w) 0) 15 (w * 12 + U 9 w) 0) 18 (w * 12 + U 9 w) (-1))) (V := (up (up (up (up (up U 10 (w * 12 + U 9 w) W) 11 (w * 12 + U 9 w) (tName (tAdv S) 54 0)) 12 (w * 12 + U 9 w) 0) 15 (w * 12 + U 9 w) 0) 18 (w * 12 + U 9 w) (-1))) ⟨rfl, rfl, rfl, rfl⟩
      have u : ∀ f, f < 10 → (up (up (up (up (up U 10 (w * 12 + U 9 w) W) 11 (w * 12 + U 9 w) (tName (tAdv S) 54 0)) 12 (w * 12 + U 9 w) 0) 15 (w * 12 + U 9 w) 0) 18 (w * 12 + U 9 w) (-1)) f = U f := fun f hf => by
        rw [up_n (by omega), up_n (by omega), up_n (by omega), up_n (by omega), up_n (by omega)]
      have u10 : ∀ i, (up (up (up (up (up U 10 (w * 12 + U 9 w) W) 11 (w * 12 + U 9 w) (tName (tAdv S) 54 0)) 12 (w * 12 + U 9 w) 0) 15 (w * 12 + U 9 w) 0) 18 (w * 12 + U 9 w) (-1)) 10 i = if i = w * 12 + U 9 w then W else U 10 i := fun i => by
        rw [up_n (by decide), up_n (by decide), up_n (by decide), up_n (by decide), up_eq]
        by_cases z : i = w * 12 + U 9 w
        · rw [if_pos ⟨rfl, z⟩, if_pos z]
        · rw [if_neg (fun y => z y.2), if_neg z]
      generalize (up (up (up (up (up U 10 (w * 12 + U 9 w) W) 11 (w * 12 + U 9 w) (tName (tAdv S) 54 0)) 12 (w * 12 + U 9 w) 0) 15 (w * 12 + U 9 w) 0) 18 (w * 12 + U 9 w) (-1)) = V at *
      refine ⟨?_, ?_⟩
      · rw [e3, e4, u 3 (by decide), u 4 (by decide)]
        exact h.1
      · intro k k0 k1
        rw [e10, u10]
        split
        · exact kw
        · rename_i ne
          refine h.2 k k0 ?_
          rcases e9 with e9 | e9
          · rw [e9, u 9 (by decide)] at k1
            exact k1
          · rw [e9, up_s, u 9 (by decide)] at k1
            omega
    · exact h
theorem NK_kind (h : NK w U) : NK w (tKind w S U).2 := by
  unfold tKind
  split
  · exact h
  · split
    · rename_i n
      have kw := nm_kw n
      generalize tName (tAdv S) 53 0 = W at *
      have base : ∀ V : tSt, V 9 = U 9 → V 10 = U 10 → (∀ i, V 4 i = if i = w * 16 + U 3 w then W else U 4 i) → (V 3 w = U 3 w ∨ V 3 w = U 3 w + 1) → NK w V := fun V a9 a10 a4 a3 => by
        refine ⟨fun k k0 k1 => ?_, ?_⟩
        · rw [a4]
          split
          · exact kw
          · rename_i ne
            exact h.1 k k0 (by omega)
        · rw [a9, a10]
          exact h.2
      have u4 : ∀ i, (up (up U 4 (w * 16 + U 3 w) W) 5 (w * 16 + U 3 w) (tName (tAdv S) 54 0)) 4 i = if i = w * 16 + U 3 w then W else U 4 i := fun i => by
        rw [up_n (by decide), up_eq]
        by_cases z : i = w * 16 + U 3 w
        · rw [if_pos ⟨rfl, z⟩, if_pos z]
        · rw [if_neg (fun y => z y.2), if_neg z]
      have u : ∀ f, f ≠ 4 → f ≠ 5 → (up (up U 4 (w * 16 + U 3 w) W) 5 (w * 16 + U 3 w) (tName (tAdv S) 54 0)) f = U f := fun f h1 h2 => by rw [up_n h2, up_n h1]
      generalize (up (up U 4 (w * 16 + U 3 w) W) 5 (w * 16 + U 3 w) (tName (tAdv S) 54 0)) = V at *
      have plain : NK w V := base V (u 9 (by decide) (by decide)) (u 10 (by decide) (by decide)) u4 (Or.inl (by rw [u 3 (by decide) (by decide)]))
      unfold tKind2
      split
      · split
        · unfold tKind3
          split
          · refine base _ ?_ ?_ (fun i => ?_) (Or.inr ?_)
            · dsimp only; rw [up_n (by decide), up_n (by decide), up_n (by decide), up_n (by decide)]; exact u 9 (by decide) (by decide)
            · dsimp only; rw [up_n (by decide), up_n (by decide), up_n (by decide), up_n (by decide)]; exact u 10 (by decide) (by decide)
            · dsimp only; rw [up_n (by decide), up_n (by decide), up_n (by decide), up_n (by decide)]; exact u4 i
            · dsimp only
              rw [up_s]
              first | rw [u 3 (by decide) (by decide)] | rw [up_n (by decide), up_n (by decide), up_n (by decide), u 3 (by decide) (by decide)]
          · refine base _ ?_ ?_ (fun i => ?_) (Or.inl ?_)
            · dsimp only; rw [up_n (by decide), up_n (by decide), up_n (by decide)]; exact u 9 (by decide) (by decide)
            · dsimp only; rw [up_n (by decide), up_n (by decide), up_n (by decide)]; exact u 10 (by decide) (by decide)
            · dsimp only; rw [up_n (by decide), up_n (by decide), up_n (by decide)]; exact u4 i
            · dsimp only; rw [up_n (by decide), up_n (by decide), up_n (by decide), u 3 (by decide) (by decide)]
        · exact plain
      · exact plain
    · exact h
theorem NK_E (h : NK w U) (e : ∀ f, f < 18 → V f = U f) : NK w V := by
  unfold NK at *
  rw [e 3 (by decide), e 4 (by decide), e 9 (by decide), e 10 (by decide)]
  exact h
theorem NK_step (h : NK w U) : NK w (tStep w S U).2 := by
  unfold tStep
  split
  · split
    · exact NK_kind h
    · split
      · exact NK_way h
      · exact h
  · split
    · exact NK_E h (fun f hf => EG_close (f0 := f) hf rfl)
    · exact NK_E h (fun f hf => EG_stmt (f0 := f) hf rfl)
theorem NK_run : ∀ (d : Nat) (S U : tSt), NK w U → NK w (tRun w d S U).2
  | 0, _, _, h => h
  | d + 1, S, U, h => by
    unfold tRun
    split
    · exact NK_run d _ _ (NK_step h)
    · exact h
theorem NK_clear (w0 : 0 ≤ w ∧ w ≤ 1) : NK w (tClear w U) := by
  have w' : w = 0 ∨ w = 1 := by omega
  refine ⟨fun k k0 k1 => ?_, fun k k0 k1 => ?_⟩
  · have h3 : tClear w U 3 w = 4 := by
      unfold tClear
      simp only [up_eq, true_and, false_and, and_true, and_false, and_self, if_true, if_false, eq_self, Nat.reduceEqDiff, reduceIte]
    rw [h3] at k1
    have : k = 0 ∨ k = 1 ∨ k = 2 ∨ k = 3 := by omega
    rcases this with rfl | rfl | rfl | rfl
    · have : tClear w U 4 (w * 16 + 0) = 0x616c6c := by
        unfold tClear
        rcases w' with rfl | rfl <;> simp [up]
      rw [this]; decide
    · have : tClear w U 4 (w * 16 + 1) = 0x706c61696e := by
        unfold tClear
        rcases w' with rfl | rfl <;> simp [up]
      rw [this]; decide
    · have : tClear w U 4 (w * 16 + 2) = 0x6c6f6f7365 := by
        unfold tClear
        rcases w' with rfl | rfl <;> simp [up]
      rw [this]; decide
    · have : tClear w U 4 (w * 16 + 3) = 0x6572726f72 := by
        unfold tClear
        rcases w' with rfl | rfl <;> simp [up]
      rw [this]; decide
  · have h9 : tClear w U 9 w = 0 := by
      unfold tClear
      simp only [up_eq, true_and, false_and, and_true, and_false, and_self, if_true, if_false, eq_self, Nat.reduceEqDiff, reduceIte]
    rw [h9] at k1
    omega
/-- what find asks for -/
theorem NK_find (h : NK w U) {y : Int} (k : tKw y = true) : kO U w y 2001 = -1 ∧ mO U w y = -1 := by
  refine ⟨?_, ?_⟩
  · unfold kO
    rcases tFst_b (fun q => decide (U 4 (w * 16 + q) = y) && decide (U 6 (w * 16 + q) < 2001)) (U 3 w).toNat 0 with z | ⟨z1, z2, z3⟩
    · exact z
    · exfalso
      rw [Bool.and_eq_true, decide_eq_true_eq] at z3
      have := h.1 _ z1 (by omega)
      rw [z3.1, k] at this
      cases this
  · unfold mO
    rcases tFst_b (fun q => decide (U 10 (w * 12 + q) = y)) (U 9 w).toNat 0 with z | ⟨z1, z2, z3⟩
    · exact z
    · exfalso
      rw [decide_eq_true_eq] at z3
      have := h.2 _ z1 (by omega)
      rw [z3, k] at this
      cases this
end NKS
