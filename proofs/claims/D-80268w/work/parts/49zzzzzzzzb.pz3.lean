/-! PURE: blocks and statements name one another, 3: a block more *-/
section PZU
variable {w b s what own num i : Int} {S S' U U' : tSt} {f : Nat}
/-- a block b is opened, field f of i names it -/
def OPN (w b what own num : Int) (f : Nat) (i : Int) (U U' : tSt) : Prop := b = w * 1024 + U 40 w ∧ U' 40 w = U 40 w + 1 ∧ (U' 41 b = what ∧ U' 42 b = own ∧ U' 43 b = num ∧ U' 45 b = -1 ∧ U' 46 b = -1) ∧
  (∀ g j, 41 ≤ g → g ≤ 46 → j ≠ b → U' g j = U g j) ∧ U' f i = b ∧ ∀ g j, g < 40 → ¬ (g = f ∧ j = i) → U' g j = U g j
/-- and where it begins -/
def OPF (w b what own num : Int) (f : Nat) (i : Int) (S S' U U' : tSt) : Prop := OPN w b what own num f i U U' ∧ S 49 0 ≤ U' 44 b ∧ U' 44 b < S' 49 0
theorem OPN_mk (h : tIsO S = true) (hf : f < 40) : OPN w (w * 1024 + U 40 w) what own num f i U (oU w what own num f i S U) := by
  obtain ⟨o1, o2, o3, o4, o5, o6⟩ := oU_v (w := w) (what := what) (own := own) (num := num) (i := i) (U := U) h hf
  refine ⟨rfl, o1, ⟨o2, o3, o4, ?_, ?_⟩, fun g j g1 g2 hj => ?_, o6, fun g j hg hn => ?_⟩
  · unfold oU tOU tOB
    rw [if_pos h, up_n (by omega)]
    simp only [up_eq, true_and, false_and, and_true, and_false, and_self, if_true, if_false, eq_self, Nat.reduceEqDiff, reduceIte]
  · unfold oU tOU tOB
    rw [if_pos h, up_n (by omega)]
    simp only [up_eq, true_and, false_and, and_true, and_false, and_self, if_true, if_false, eq_self, Nat.reduceEqDiff, reduceIte]
  · unfold oU tOU tOB
    rw [if_pos h, up_n (by omega)]
    simp only [up_eq]
    rw [if_neg (fun z => hj z.2), if_neg (fun z => hj z.2), if_neg (fun z => hj z.2), if_neg (fun z => hj z.2), if_neg (fun z => hj z.2), if_neg (fun z => hj z.2), if_neg (by omega)]
  · unfold oU
    rw [up_eq, if_neg hn, tOU_o (by omega)]
/-- a block of a statement, or of a method -/
def opC (w what own num : Int) (f : Nat) (i : Int) (S U : tSt) : Prop :=
  (what = 0 ∧ own = -1 ∧ f = 18 ∧ i = w * 12 + num ∧ (0 ≤ num ∧ num < U 9 w) ∧ S 55 0 = 0 ∧ U 18 i = -1) ∨
  (As w U own ∧ (1 ≤ S 55 0 ∧ U 22 own = S 56 (S 55 0 - 1)) ∧ rsO what (U 20 own) ∧ ((what ≠ 3 ∧ what ≠ 6 ∧ what ≠ 7 ∧ f = 27 ∧ i = own ∧ U 27 own = -1 ∧ (what = 2 → U 28 own = -1) ∧ (what = 5 → U 29 own = -1)) ∨ (what = 3 ∧ f = 28 ∧ i = own ∧ U 28 own = -1) ∨ (what = 7 ∧ f = 29 ∧ i = own ∧ U 29 own = -1)))
theorem PZ_opn (op : OPN w b what own num f i U U') (oc : opC w what own num f i S U) (pq : PW w U) (p : PZ w S U) (ab : ∀ i, 0 ≤ i → i < S 55 0 → Ab w U (S 56 i)) (h40 : 0 ≤ U 40 w) (w0 : 0 ≤ w) (d0 : 0 ≤ S 55 0 ∧ S 55 0 < 8) (h5 : S' 55 0 = S 55 0 + 1) (h6 : ∀ j, S' 56 j = if j = S 55 0 then b else S 56 j) : PZ w S' U' := by
  obtain ⟨hb, e40, ⟨n41, n42, n43, n45, n46⟩, e4, efi, ej⟩ := op
  obtain ⟨a, zb, c, d, g, g1, g2⟩ := p
  have aB : ∀ k, Ab w U' k → k ≠ b → Ab w U k := fun k hk ne => ⟨hk.1, by have := hk.2; omega⟩
  have aB2 : ∀ k, Ab w U k → Ab w U' k ∧ k ≠ b := fun k hk => ⟨⟨hk.1, by have := hk.2; omega⟩, by have := hk.2; omega⟩
  have abb : Ab w U' b := ⟨by omega, by omega⟩
  have ff : f = 18 ∨ f = 27 ∨ f = 28 ∨ f = 29 := by unfold opC at oc; omega
  have e19 : U' 19 = U 19 := by funext j; exact ej 19 j (by decide) (by omega)
  have e9 : U' 9 = U 9 := by funext j; exact ej 9 j (by decide) (by omega)
  have e20 : U' 20 = U 20 := by funext j; exact ej 20 j (by decide) (by omega)
  have e22 : U' 22 = U 22 := by funext j; exact ej 22 j (by decide) (by omega)
  have e24 : U' 24 = U 24 := by funext j; exact ej 24 j (by decide) (by omega)
  have e33 : U' 33 = U 33 := by funext j; exact ej 33 j (by decide) (by omega)
  have e34 : U' 34 = U 34 := by funext j; exact ej 34 j (by decide) (by omega)
  have aS : ∀ k, As w U' k ↔ As w U k := fun k => by unfold As; rw [e19]
  -- the place that is written was free
  have fr : ∀ c, Ab w U c → (U 41 c = 0 → f = 18 → w * 12 + U 43 c ≠ i) ∧ (U 41 c ≠ 0 → (f = 28 → U 41 c = 3 → U 42 c ≠ i) ∧ (f = 29 → U 41 c = 7 → U 42 c ≠ i) ∧ (f = 27 → U 41 c ≠ 3 → U 41 c ≠ 6 → U 41 c ≠ 7 → U 42 c ≠ i)) := by
    intro c hc
    obtain ⟨y1, y2⟩ := a c hc
    have cb := hc.1
    unfold opC at oc
    refine ⟨fun z hf e => ?_, fun z => ⟨fun hf h3 e => ?_, fun hf h7 e => ?_, fun hf h3 h6 h7 e => ?_⟩⟩
    · have := (y1 z).2.2
      rw [e] at this
      omega
    · have y := (y2 z).1
      unfold nmB at y
      rw [if_pos h3, e] at y
      have : own = i := by omega
      rw [← this] at y
      omega
    · have y := (y2 z).1
      unfold nmB at y
      rw [if_neg (by omega), if_pos h7, e] at y
      have : own = i := by omega
      rw [← this] at y
      omega
    · have y := (y2 z).1
      unfold nmB at y
      rw [if_neg h3, if_neg h7, if_neg h6, e] at y
      have : own = i := by omega
      rw [← this] at y
      omega
  have gi : ∀ i j, 0 ≤ i → i < S 55 0 → 0 ≤ j → j < S 55 0 → S 56 i = S 56 j → i = j := fun i j i0 i1 j0 j1 e => by
    have q1 := (g2 i i0 i1).1
    have q2 := (g2 j j0 j1).1
    rw [e] at q1
    omega
  refine ⟨fun c hc => ?_, fun k hk => ?_, fun m m0 m1 z => ?_, fun c hc => ?_, fun c => if c = b then S 55 0 + 1 else g c, fun c hc => ?_, fun j j0 j1 => ?_⟩
  · by_cases z : c = b
    · rw [z]
      unfold nmB
      rw [n41, n42, n43, e9, e20]
      rcases oc with ⟨o1, o2, o3, o4, o5, o6, o7⟩ | ⟨o1, o2, o3, o4⟩
      · refine ⟨fun _ => ⟨o5.1, o5.2, ?_⟩, fun y => absurd o1 y⟩
        rw [← o4, ← o3]
        exact efi
      · refine ⟨fun y => ?_, fun _ => ⟨?_, o3⟩⟩
        · unfold rsO at o3
          omega
        · rcases o4 with ⟨q1, q2, q3, q4, q5, _⟩ | ⟨q1, q4, q5, _⟩ | ⟨q1, q4, q5, _⟩
          · rw [if_neg q1, if_neg q3, if_neg q2, ← q5, ← q4]
            exact efi
          · rw [if_pos q1, ← q5, ← q4]
            exact efi
          · rw [if_neg (by omega), if_pos q1, ← q5, ← q4]
            exact efi
    · have hc' := aB c hc z
      obtain ⟨y1, y2⟩ := a c hc'
      obtain ⟨f1, f2⟩ := fr c hc'
      rw [e4 41 c (by decide) (by decide) z, e9, e20]
      unfold nmB at y2 ⊢
      rw [e4 41 c (by decide) (by decide) z, e4 42 c (by decide) (by decide) z, e4 43 c (by decide) (by decide) z, e34]
      refine ⟨fun q => ?_, fun q => ⟨?_, (y2 q).2⟩⟩
      · rw [ej 18 _ (by decide) (fun t => f1 q t.1.symm t.2)]
        exact y1 q
      · obtain ⟨h1, h2, h3⟩ := f2 q
        have y := (y2 q).1
        by_cases q3 : U 41 c = 3
        · rw [if_pos q3] at y ⊢
          rw [ej 28 _ (by decide) (fun t => h1 t.1.symm q3 t.2)]
          exact y
        · rw [if_neg q3] at y ⊢
          by_cases q7 : U 41 c = 7
          · rw [if_pos q7] at y ⊢
            rw [ej 29 _ (by decide) (fun t => h2 t.1.symm q7 t.2)]
            exact y
          · rw [if_neg q7] at y ⊢
            by_cases q6 : U 41 c = 6
            · rw [if_pos q6] at y ⊢
              exact y
            · rw [if_neg q6] at y ⊢
              rw [ej 27 _ (by decide) (fun t => h3 t.1.symm q3 q6 q7 t.2)]
              exact y
  · have hk' := (aS k).mp hk
    obtain ⟨y1, y2, y3, y4⟩ := zb k hk'
    have old : ∀ c, bo w U k c → bo w U' k c ∧ U' 41 c = U 41 c ∧ U' 43 c = U 43 c := fun c hc => by
      obtain ⟨h1, h2⟩ := aB2 c hc.1
      refine ⟨⟨h1, ?_, ?_⟩, e4 41 c (by decide) (by decide) h2, e4 43 c (by decide) (by decide) h2⟩
      · rw [e4 42 c (by decide) (by decide) h2]; exact hc.2.1
      · rw [e4 41 c (by decide) (by decide) h2]; exact hc.2.2
    have new : k = own → what ≠ 0 → bo w U' k b := fun e h => ⟨abb, by rw [n42, e], by rw [n41]; exact h⟩
    refine ⟨fun z => ?_, fun z => ?_, fun z => ?_, fun j j0 j1 => ?_⟩
    · by_cases q : f = 27 ∧ k = i
      · rw [q.2, ← q.1, efi, n41]
        unfold opC rsO at oc
        exact ⟨by rw [← q.2]; exact new (by omega) (by omega), by omega, by omega, by omega⟩
      · rw [ej 27 k (by decide) (fun t => q ⟨t.1.symm, t.2⟩)] at z ⊢
        obtain ⟨h1, h2, h3, h4⟩ := y1 z
        obtain ⟨o1, o2, o3⟩ := old _ h1
        rw [o2]
        exact ⟨o1, h2, h3, h4⟩
    · by_cases q : f = 28 ∧ k = i
      · rw [q.2, ← q.1, efi, n41]
        unfold opC rsO at oc
        exact ⟨by rw [← q.2]; exact new (by omega) (by omega), by omega⟩
      · rw [ej 28 k (by decide) (fun t => q ⟨t.1.symm, t.2⟩)] at z ⊢
        obtain ⟨h1, h2⟩ := y2 z
        obtain ⟨o1, o2, o3⟩ := old _ h1
        rw [o2]
        exact ⟨o1, h2⟩
    · by_cases q : f = 29 ∧ k = i
      · rw [q.2, ← q.1, efi, n41]
        unfold opC rsO at oc
        exact ⟨by rw [← q.2]; exact new (by omega) (by omega), by omega⟩
      · rw [ej 29 k (by decide) (fun t => q ⟨t.1.symm, t.2⟩)] at z ⊢
        obtain ⟨h1, h2⟩ := y3 z
        obtain ⟨o1, o2, o3⟩ := old _ h1
        rw [o2]
        exact ⟨o1, h2⟩
    · rw [e33] at j1
      obtain ⟨h1, h2, h3⟩ := y4 j j0 j1
      obtain ⟨o1, o2, o3⟩ := old _ h1
      rw [e34, o2, o3]
      exact ⟨o1, h2, h3⟩
  · rw [e9] at m1
    by_cases q : f = 18 ∧ w * 12 + m = i
    · unfold opC at oc
      rw [q.2, ← q.1, efi, n41, n43]
      exact ⟨abb, by omega, by omega⟩
    · rw [ej 18 _ (by decide) (fun t => q ⟨t.1.symm, t.2⟩)] at z ⊢
      obtain ⟨h1, h2, h3⟩ := c m m0 m1 z
      obtain ⟨k1, k2⟩ := aB2 _ h1
      rw [e4 41 _ (by decide) (by decide) k2, e4 43 _ (by decide) (by decide) k2]
      exact ⟨k1, h2, h3⟩
  · have sl : ∀ c, stB U' w c = stB U w c := fun c => by unfold stB stL; rw [e19, e22]
    rw [sl]
    by_cases z : c = b
    · have nl : stB U w b = [] := by
        apply Classical.byContradiction
        intro ne
        obtain ⟨k, hk⟩ := List.exists_mem_of_ne_nil _ ne
        obtain ⟨k1, k2⟩ := stB_in.mp hk
        have := (pq.1 k k1).2
        omega
      rw [z, nl, n45, n46]
      exact ⟨rfl, rfl⟩
    · obtain ⟨d1, d2⟩ := d c (aB c hc z)
      rw [e4 45 c (by decide) (by decide) z, e4 46 c (by decide) (by decide) z]
      exact ⟨isCh_cg _ _ (fun t _ => by rw [e24]) d1, d2⟩
  · show 1 ≤ (if c = b then S 55 0 + 1 else g c) ∧ (if c = b then S 55 0 + 1 else g c) ≤ 8 ∧ (U' 41 c ≠ 0 → (if c = b then S 55 0 + 1 else g c) = (if U' 22 (U' 42 c) = b then S 55 0 + 1 else g (U' 22 (U' 42 c))) + 1)
    by_cases z : c = b
    · rw [if_pos z, z, n41, n42, e22]
      refine ⟨by omega, by omega, fun y => ?_⟩
      rcases oc with ⟨o1, _⟩ | ⟨o1, ⟨o2, o3⟩, _⟩
      · exact absurd o1 y
      · have q := (g2 (S 55 0 - 1) (by omega) (by omega)).1
        have := (ab (S 55 0 - 1) (by omega) (by omega)).2
        rw [o3, if_neg (by omega), q]
        omega
    · have hc' := aB c hc z
      obtain ⟨h1, h2, h3⟩ := g1 c hc'
      rw [if_neg z, e4 41 c (by decide) (by decide) z, e4 42 c (by decide) (by decide) z, e22]
      refine ⟨h1, h2, fun y => ?_⟩
      rcases (pq.2 c hc').1 with ⟨q, _⟩ | ⟨_, q, q2⟩
      · exact absurd q y
      · have := hc'.2
        rw [if_neg (by omega)]
        exact h3 y
  · show (if S' 56 j = b then S 55 0 + 1 else g (S' 56 j)) = j + 1 ∧ _
    rw [h5] at j1
    by_cases z : j = S 55 0
    · rw [h6 j, if_pos z, if_pos rfl, n41, n42, e22]
      refine ⟨by omega, fun y => ⟨?_, ?_⟩, fun y => ?_, fun y => ?_⟩
      · unfold opC rsO at oc; omega
      · rw [h6, if_neg (by omega), z]
        unfold opC at oc
        rcases oc with ⟨_, _, _, _, _, o6, _⟩ | ⟨_, ⟨_, o3⟩, _⟩
        · omega
        · exact o3
      · unfold opC rsO at oc
        rw [ej 28 _ (by decide) (by omega)]
        omega
      · unfold opC rsO at oc
        rw [ej 29 _ (by decide) (by omega)]
        omega
    · have j1' : j < S 55 0 := by omega
      obtain ⟨q1, q2, q3, q4⟩ := g2 j j0 j1'
      have abj := ab j j0 j1'
      have nj : S 56 j ≠ b := (aB2 _ abj).2
      rw [h6 j, if_neg z, if_neg nj, e4 41 _ (by decide) (by decide) nj, e4 42 _ (by decide) (by decide) nj, e22]
      -- another block that is not closed has another owner
      have no : U 41 (S 56 j) ≠ 0 → As w U own → U 42 (S 56 j) ≠ own ∨ j = 0 := fun y ho => by
        by_cases j00 : j = 0
        · exact Or.inr j00
        · left
          intro e
          have q := (q2 (by omega)).2
          unfold opC at oc
          rcases oc with ⟨_, o2, _⟩ | ⟨_, ⟨o2, o3⟩, _⟩
          · have := ho.1; omega
          · rw [e, o3] at q
            have := gi (S 55 0 - 1) (j - 1) (by omega) (by omega) (by omega) (by omega) q
            omega
      have r0 : U 41 (S 56 j) ≠ 0 → j ≠ 0 := fun y e => by
        obtain ⟨h1, h2, h3⟩ := g1 _ abj
        have h4 := h3 y
        rcases (pq.2 _ abj).1 with ⟨q, _⟩ | ⟨_, q, _⟩
        · exact y q
        · have := (g1 _ (pq.1 _ q)).1
          omega
      have ho : f = 28 ∨ f = 29 → As w U own ∧ i = own := fun t => by
        rcases oc with ⟨_, _, o3, _⟩ | ⟨o1, _, _, ⟨_, _, _, o4, _⟩ | ⟨_, _, o5, _⟩ | ⟨_, _, o5, _⟩⟩
        · omega
        · omega
        · exact ⟨o1, o5⟩
        · exact ⟨o1, o5⟩
      refine ⟨q1, fun y => ⟨(q2 y).1, ?_⟩, fun y => ?_, fun y => ?_⟩
      · rw [h6, if_neg (by omega)]
        exact (q2 y).2
      · rw [ej 28 _ (by decide) (fun t => ?_)]
        · exact q3 y
        · obtain ⟨h1, h2⟩ := ho (by omega)
          rcases no (by omega) h1 with z1 | z1
          · exact z1 (t.2.trans h2)
          · exact r0 (by omega) z1
      · rw [ej 29 _ (by decide) (fun t => ?_)]
        · exact q4 y
        · obtain ⟨h1, h2⟩ := ho (by omega)
          rcases no (by omega) h1 with z1 | z1
          · exact z1 (t.2.trans h2)
          · exact r0 (by omega) z1
end PZU
