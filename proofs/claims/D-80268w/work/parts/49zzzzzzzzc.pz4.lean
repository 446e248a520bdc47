/-! PURE: blocks and statements name one another, 4: a catch, a method *-/
section PZV
variable {w b s n i x : Int} {S S' U U' V : tSt} {f : Nat}
theorem PZ_cat (op : OPN w b 6 s n 34 (4 * s + n) V U') (ev : ∀ j, V 33 j = if j = s then n + 1 else U 33 j) (ef : ∀ f, pzF f = true → f ≠ 33 → V f = U f) (hn : n = U 33 s ∧ 0 ≤ n ∧ n < 4) (b33 : ∀ k, 0 ≤ U 33 k ∧ U 33 k ≤ 4) (hs : As w U s) (d1 : 1 ≤ S 55 0) (h22 : U 22 s = S 56 (S 55 0 - 1)) (u20 : U 20 s = 9) (u29 : U 29 s = -1)
    (pq : PW w U) (p : PZ w S U) (ab : ∀ i, 0 ≤ i → i < S 55 0 → Ab w U (S 56 i)) (h40 : 0 ≤ U 40 w) (w0 : 0 ≤ w) (d0 : S 55 0 < 8) (h5 : S' 55 0 = S 55 0 + 1) (h6 : ∀ j, S' 56 j = if j = S 55 0 then b else S 56 j) : PZ w S' U' := by
  obtain ⟨hb, e40, ⟨n41, n42, n43, n45, n46⟩, e4, efi, ej⟩ := op
  obtain ⟨a, zb, c, d, g, g1, g2⟩ := p
  rw [ef 40 rfl (by decide)] at hb e40
  have e4' : ∀ g j, pzF g = true → 41 ≤ g → g ≤ 46 → j ≠ b → U' g j = U g j := fun g j p h1 h2 h3 => by rw [e4 g j h1 h2 h3, ef g p (by omega)]
  have eo : ∀ g, pzF g = true → g < 40 → g ≠ 34 → g ≠ 33 → U' g = U g := fun g p h1 h2 h3 => by funext j; rw [ej g j h1 (fun t => h2 t.1), ef g p h3]
  have e34 : ∀ j, j ≠ 4 * s + n → U' 34 j = U 34 j := fun j hj => by rw [ej 34 j (by decide) (fun t => hj t.2), ef 34 rfl (by decide)]
  have e33 : ∀ j, U' 33 j = if j = s then n + 1 else U 33 j := fun j => by rw [ej 33 j (by decide) (fun t => absurd t.1 (by decide)), ev]
  have e9 := eo 9 rfl (by decide) (by decide) (by decide)
  have e18 := eo 18 rfl (by decide) (by decide) (by decide)
  have e19 := eo 19 rfl (by decide) (by decide) (by decide)
  have e20 := eo 20 rfl (by decide) (by decide) (by decide)
  have e22 := eo 22 rfl (by decide) (by decide) (by decide)
  have e24 := eo 24 rfl (by decide) (by decide) (by decide)
  have e27 := eo 27 rfl (by decide) (by decide) (by decide)
  have e28 := eo 28 rfl (by decide) (by decide) (by decide)
  have e29 := eo 29 rfl (by decide) (by decide) (by decide)
  have aB : ∀ k, Ab w U' k → k ≠ b → Ab w U k := fun k hk ne => ⟨hk.1, by have := hk.2; omega⟩
  have aB2 : ∀ k, Ab w U k → Ab w U' k ∧ k ≠ b := fun k hk => ⟨⟨hk.1, by have := hk.2; omega⟩, by have := hk.2; omega⟩
  have abb : Ab w U' b := ⟨by omega, by omega⟩
  have aS : ∀ k, As w U' k ↔ As w U k := fun k => by unfold As; rw [e19]
  refine ⟨fun c hc => ?_, fun k hk => ?_, fun m m0 m1 z => ?_, fun c hc => ?_, fun c => if c = b then S 55 0 + 1 else g c, fun c hc => ?_, fun j j0 j1 => ?_⟩
  · by_cases z : c = b
    · rw [z]
      unfold nmB
      rw [n41, n42, n43, e20, u20]
      refine ⟨fun y => absurd y (by decide), fun _ => ⟨?_, by unfold rsO; omega⟩⟩
      rw [if_neg (by decide), if_neg (by decide), if_pos rfl]
      exact efi
    · have hc' := aB c hc z
      obtain ⟨y1, y2⟩ := a c hc'
      obtain ⟨_, p6⟩ := pq.2 c hc'
      unfold nmB at y2 ⊢
      rw [e4' 41 c rfl (by decide) (by decide) z, e4' 42 c rfl (by decide) (by decide) z, e4' 43 c rfl (by decide) (by decide) z, e9, e18, e20, e27, e28, e29]
      refine ⟨y1, fun q => ⟨?_, (y2 q).2⟩⟩
      have y := (y2 q).1
      by_cases q3 : U 41 c = 3
      · rw [if_pos q3] at y ⊢; exact y
      · rw [if_neg q3] at y ⊢
        by_cases q7 : U 41 c = 7
        · rw [if_pos q7] at y ⊢; exact y
        · rw [if_neg q7] at y ⊢
          by_cases q6 : U 41 c = 6
          · rw [if_pos q6] at y ⊢
            have h6 := p6 q6
            have b4 := b33 (U 42 c)
            rw [e34 _ (fun t => ?_)]
            · exact y
            · have : U 42 c = s := by omega
              rw [this] at h6 t
              omega
          · rw [if_neg q6] at y ⊢; exact y
  · have hk' := (aS k).mp hk
    obtain ⟨y1, y2, y3, y4⟩ := zb k hk'
    have old : ∀ c, bo w U k c → bo w U' k c ∧ U' 41 c = U 41 c ∧ U' 43 c = U 43 c := fun c hc => by
      obtain ⟨h1, h2⟩ := aB2 c hc.1
      refine ⟨⟨h1, ?_, ?_⟩, e4' 41 c rfl (by decide) (by decide) h2, e4' 43 c rfl (by decide) (by decide) h2⟩
      · rw [e4' 42 c rfl (by decide) (by decide) h2]; exact hc.2.1
      · rw [e4' 41 c rfl (by decide) (by decide) h2]; exact hc.2.2
    rw [e27, e28, e29]
    refine ⟨fun z => ?_, fun z => ?_, fun z => ?_, fun j j0 j1 => ?_⟩
    · obtain ⟨h1, h2, h3, h4⟩ := y1 z
      obtain ⟨o1, o2, o3⟩ := old _ h1
      rw [o2]
      exact ⟨o1, h2, h3, h4⟩
    · obtain ⟨h1, h2⟩ := y2 z
      obtain ⟨o1, o2, o3⟩ := old _ h1
      rw [o2]
      exact ⟨o1, h2⟩
    · obtain ⟨h1, h2⟩ := y3 z
      obtain ⟨o1, o2, o3⟩ := old _ h1
      rw [o2]
      exact ⟨o1, h2⟩
    · rw [e33] at j1
      by_cases z : k = s ∧ j = n
      · rw [z.1, z.2, efi, n41, n43]
        exact ⟨⟨abb, n42, by rw [n41]; decide⟩, rfl, rfl⟩
      · have b4 := b33 k
        have j1' : j < U 33 k := by
          by_cases y : k = s
          · rw [if_pos y] at j1
            have : j ≠ n := fun t => z ⟨y, t⟩
            rw [y]
            omega
          · rw [if_neg y] at j1
            exact j1
        rw [e34 _ (fun t => z (by omega))]
        obtain ⟨h1, h2, h3⟩ := y4 j j0 j1'
        obtain ⟨o1, o2, o3⟩ := old _ h1
        rw [o2, o3]
        exact ⟨o1, h2, h3⟩
  · rw [e9] at m1
    rw [e18] at z ⊢
    obtain ⟨h1, h2, h3⟩ := c m m0 m1 z
    obtain ⟨k1, k2⟩ := aB2 _ h1
    rw [e4' 41 _ rfl (by decide) (by decide) k2, e4' 43 _ rfl (by decide) (by decide) k2]
    exact ⟨k1, h2, h3⟩
  · have sl : ∀ c, stB U' w c = stB U w c := fun c => by unfold stB stL; rw [e19, e22]
    rw [sl]
    by_cases z : c = b
    · have nl : stB U w b = [] := by
        apply Classical.byContradiction
        intro ne
        obtain ⟨k, hk⟩ := List.exists_mem_of_ne_nil _ ne
        obtain ⟨k1, k2⟩ := stB_in.mp hk
        have := (pq.1 k k1).2
        omega
      rw [z, nl, n45, n46]
      exact ⟨rfl, rfl⟩
    · obtain ⟨d1, d2⟩ := d c (aB c hc z)
      rw [e4' 45 c rfl (by decide) (by decide) z, e4' 46 c rfl (by decide) (by decide) z]
      exact ⟨isCh_cg _ _ (fun t _ => by rw [e24]) d1, d2⟩
  · show 1 ≤ (if c = b then S 55 0 + 1 else g c) ∧ (if c = b then S 55 0 + 1 else g c) ≤ 8 ∧ (U' 41 c ≠ 0 → (if c = b then S 55 0 + 1 else g c) = (if U' 22 (U' 42 c) = b then S 55 0 + 1 else g (U' 22 (U' 42 c))) + 1)
    by_cases z : c = b
    · rw [if_pos z, z, n41, n42, e22]
      refine ⟨by omega, by omega, fun y => ?_⟩
      have q := (g2 (S 55 0 - 1) (by omega) (by omega)).1
      have := (ab (S 55 0 - 1) (by omega) (by omega)).2
      rw [h22, if_neg (by omega), q]
      omega
    · have hc' := aB c hc z
      obtain ⟨h1, h2, h3⟩ := g1 c hc'
      rw [if_neg z, e4' 41 c rfl (by decide) (by decide) z, e4' 42 c rfl (by decide) (by decide) z, e22]
      refine ⟨h1, h2, fun y => ?_⟩
      rcases (pq.2 c hc').1 with ⟨q, _⟩ | ⟨_, q, q2⟩
      · exact absurd q y
      · have := hc'.2
        rw [if_neg (by omega)]
        exact h3 y
  · show (if S' 56 j = b then S 55 0 + 1 else g (S' 56 j)) = j + 1 ∧ _
    rw [h5] at j1
    by_cases z : j = S 55 0
    · rw [h6 j, if_pos z, if_pos rfl, n41, n42, e22]
      refine ⟨by omega, fun y => ⟨by decide, ?_⟩, fun y => absurd y (by decide), fun y => ?_⟩
      · rw [h6, if_neg (by omega), z]
        exact h22
      · rw [e29]; exact u29
    · have j1' : j < S 55 0 := by omega
      obtain ⟨q1, q2, q3, q4⟩ := g2 j j0 j1'
      have abj := ab j j0 j1'
      have nj : S 56 j ≠ b := (aB2 _ abj).2
      rw [h6 j, if_neg z, if_neg nj, e4' 41 _ rfl (by decide) (by decide) nj, e4' 42 _ rfl (by decide) (by decide) nj, e22, e28, e29]
      refine ⟨q1, fun y => ⟨(q2 y).1, ?_⟩, q3, q4⟩
      rw [h6, if_neg (by omega)]
      exact (q2 y).2
/-- a method more, without a body yet -/
theorem PZ_met (p : PZ w S U) (pq : PW w U) (e9 : V 9 w = U 9 w + 1) (h9 : 0 ≤ U 9 w) (e18 : ∀ j, j ≠ w * 12 + U 9 w → V 18 j = U 18 j) (n18 : V 18 (w * 12 + U 9 w) = -1) (ef : ∀ f, pzF f = true → f ≠ 9 → f ≠ 18 → V f = U f) (h5 : S' 55 0 ≤ S 55 0) (h6 : S' 56 = S 56) : PZ w S' V := by
  obtain ⟨a, b, c, d, g, e1, e2⟩ := p
  have e := fun f p h1 h2 => ef f p h1 h2
  refine ⟨fun k hk => ?_, ?_, fun m m0 m1 z => ?_, fun k hk => ?_, g, ?_, ?_⟩
  · have hk' : Ab w U k := by unfold Ab at hk ⊢; rw [e 40 rfl (by decide) (by decide)] at hk; exact hk
    obtain ⟨y1, y2⟩ := a k hk'
    unfold nmB at y2 ⊢
    rw [e 20 rfl (by decide) (by decide), e 27 rfl (by decide) (by decide), e 28 rfl (by decide) (by decide), e 29 rfl (by decide) (by decide), e 34 rfl (by decide) (by decide), e 41 rfl (by decide) (by decide), e 42 rfl (by decide) (by decide), e 43 rfl (by decide) (by decide), e9]
    refine ⟨fun q => ?_, y2⟩
    obtain ⟨h1, h2, h3⟩ := y1 q
    exact ⟨h1, by omega, by rw [e18 _ (by omega)]; exact h3⟩
  · unfold ZB bo As Ab
    rw [e 19 rfl (by decide) (by decide), e 27 rfl (by decide) (by decide), e 28 rfl (by decide) (by decide), e 29 rfl (by decide) (by decide), e 33 rfl (by decide) (by decide), e 34 rfl (by decide) (by decide), e 40 rfl (by decide) (by decide), e 41 rfl (by decide) (by decide), e 42 rfl (by decide) (by decide), e 43 rfl (by decide) (by decide)]
    exact b
  · rw [e9] at m1
    by_cases q : m = U 9 w
    · rw [q, n18] at z
      exact absurd rfl z
    · rw [e18 _ (by omega)] at z ⊢
      have := c m m0 (by omega) z
      unfold Ab at this ⊢
      rw [e 40 rfl (by decide) (by decide), e 41 rfl (by decide) (by decide), e 43 rfl (by decide) (by decide)]
      exact this
  · have hk' : Ab w U k := by unfold Ab at hk ⊢; rw [e 40 rfl (by decide) (by decide)] at hk; exact hk
    obtain ⟨d1, d2⟩ := d k hk'
    unfold stB stL at d1 d2 ⊢
    rw [e 45 rfl (by decide) (by decide), e 46 rfl (by decide) (by decide), e 19 rfl (by decide) (by decide), e 22 rfl (by decide) (by decide)]
    exact ⟨isCh_cg _ _ (fun t _ => by rw [e 24 rfl (by decide) (by decide)]) d1, d2⟩
  · unfold Ab
    rw [e 40 rfl (by decide) (by decide), e 41 rfl (by decide) (by decide), e 42 rfl (by decide) (by decide), e 22 rfl (by decide) (by decide)]
    exact e1
  · rw [h6, e 41 rfl (by decide) (by decide), e 42 rfl (by decide) (by decide), e 22 rfl (by decide) (by decide), e 28 rfl (by decide) (by decide), e 29 rfl (by decide) (by decide)]
    intro i i0 i1
    exact e2 i i0 (by omega)
end PZV
