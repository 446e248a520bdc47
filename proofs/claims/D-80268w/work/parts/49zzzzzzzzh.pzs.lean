/-! PURE: blocks and statements name one another along a step *-/
section PZW
variable {w : Int} {S U V : tSt}
theorem PQ_met (pq : PQ w U) (v1 : ∀ f, 19 ≤ f → V f = U f) (v9 : V 9 w = U 9 w + 1) (v18 : ∀ j, j ≠ w * 12 + U 9 w → V 18 j = U 18 j) (n18 : V 18 (w * 12 + U 9 w) = -1) : PQ w V := by
  obtain ⟨p1, p2, p3⟩ := pq
  unfold PQ Ps Pb As Ab at *
  rw [v1 19 (by decide), v1 20 (by decide), v1 22 (by decide), v1 23 (by decide), v1 24 (by decide), v1 27 (by decide), v1 28 (by decide), v1 29 (by decide), v1 33 (by decide), v1 34 (by decide), v1 40 (by decide), v1 41 (by decide), v1 42 (by decide), v1 43 (by decide), v1 45 (by decide), v1 46 (by decide), v9]
  refine ⟨fun s hs => ?_, p2, fun k k0 k1 => ?_⟩
  · obtain ⟨a1, a2, a3, a4, a5⟩ := p1 s hs
    exact ⟨a1, a2, a3, by omega, a5⟩
  · by_cases z : k = U 9 w
    · rw [z]
      exact Or.inl n18
    · rw [v18 _ (by omega)]
      exact p3 k k0 (by omega)
/-- the structure of rows under a statement more -/
theorem PQ_E' {U' : tSt} (pq : PQ w U) (e : ∀ f, pzF f = true ∨ f = 23 → U' f = U f) : PQ w U' := by
  unfold PQ Ps Pb As Ab at *
  rw [e 9 (by decide), e 18 (by decide), e 19 (by decide), e 20 (by decide), e 22 (by decide), e 23 (by decide), e 24 (by decide), e 27 (by decide), e 28 (by decide), e 29 (by decide), e 33 (by decide), e 34 (by decide), e 40 (by decide), e 41 (by decide), e 42 (by decide), e 43 (by decide), e 45 (by decide), e 46 (by decide)]
  exact pq
theorem PW_ent {s b x : Int} {U' : tSt} (en : ENT w s b x U U') (pw : PW w U) (hb : Ab w U b) (h19 : 0 ≤ U 19 w) : PW w U' := by
  obtain ⟨hs, e19, ⟨n22, n24, n27, n28, n29, n33, n20⟩, ef, ej, _⟩ := en
  have e40 := ef 40 (by decide)
  have e41 := ef 41 (by decide)
  have e42 := ef 42 (by decide)
  have e43 := ef 43 (by decide)
  have aB : ∀ k, Ab w U' k ↔ Ab w U k := fun k => by unfold Ab; rw [e40]
  refine ⟨fun k hk => ?_, fun c hc => ?_⟩
  · rw [aB]
    by_cases z : k = s
    · rw [z, n22]; exact hb
    · rw [ej 22 k (by decide) z]
      exact pw.1 k ⟨hk.1, by have := hk.2; omega⟩
  · have hc' := (aB c).mp hc
    obtain ⟨y1, y2⟩ := pw.2 c hc'
    rw [e41, e42, e43]
    rcases y1 with ⟨z1, z2⟩ | ⟨z1, z2, z3⟩
    · exact ⟨Or.inl ⟨z1, z2⟩, fun z => by omega⟩
    · have ne : U 42 c ≠ s := fun z => by have := z2.2; omega
      rw [ej 22 _ (by decide) ne, ej 33 _ (by decide) ne]
      exact ⟨Or.inr ⟨z1, ⟨z2.1, by have := z2.2; omega⟩, z3⟩, y2⟩
theorem PW_E {U' : tSt} (pw : PW w U) (e : ∀ f, pzF f = true → U' f = U f) : PW w U' := by
  unfold PW As Ab at *
  rw [e 19 rfl, e 22 rfl, e 33 rfl, e 40 rfl, e 41 rfl, e 42 rfl, e 43 rfl]
  exact pw
theorem PZ_ev {S' U' : tSt} (ev : EV w S U S' U') (hP : PI w S U) (w0 : 0 ≤ w) (qv : QV U) (pr : PR w U) (p : PZ w S U) : PZ w S' U' := by
  have ab := hP.ab
  have b19 := QV_b qv (f := 19) (c := 120) rfl rfl rfl w
  have b9 := QV_b qv (f := 9) (c := 12) rfl rfl rfl w
  have b33 := fun k => QV_b qv (f := 33) (c := 4) rfl rfl rfl k
  have b40 := pr.2.1
  have hd := hP.1.2.2.2.2.2.2.2
  have pw := pr.1.pw
  rcases ev with ⟨d0, ev⟩ | ev | ev | ev
  · obtain ⟨e1, e2, e3, e4, e5⟩ := ev
    exact PZ_E p (fun f hf => e1 f (by unfold pzF at hf; simp at hf; omega)) (by rw [e3]; exact Int.le_refl _) e4
  · obtain ⟨u9, d0, V, v1, v9, v2, v18, v15, h⟩ := ev
    have pv : PZ w S V := PZ_met p pw v9 b9.1 (fun j hj => v2 18 j (by decide) hj) v18 (fun f hf h9 h18 => v1 f (by unfold pzF at hf; simp at hf; omega)) (Int.le_refl _) rfl
    rcases h with ⟨h1, h2, h3, _⟩ | ⟨op, h2, h3, _⟩
    · rw [h1]
      exact PZ_E pv (fun _ _ => rfl) (by rw [h2]; exact Int.le_refl _) h3
    · have pwV : PW w V := (PQ_met pr.1 (fun f hf => v1 f (Or.inr hf)) v9 (fun j hj => v2 18 j (by decide) hj) v18).pw
      exact PZ_opn op.1 (Or.inl ⟨rfl, rfl, rfl, rfl, ⟨b9.1, by omega⟩, d0, v18⟩) pwV pv (fun i i0 i1 => by omega) (by rw [v1 40 (by decide)]; exact b40) w0 ⟨by omega, by omega⟩ (by omega) h3
  · obtain ⟨x, n, V, U1, d1, n19, en, e1, _, _, _, _, h⟩ := ev
    have hb := ab (S 55 0 - 1) (by omega) (by omega)
    have pv : PZ w S V := PZ_ent en pw p ab hb b19.1 w0 rfl rfl
    have pwV := PW_ent en pw hb b19.1
    have p1 : PZ w S U1 := PZ_E pv e1 (Int.le_refl _) rfl
    have pw1 := PW_E pwV e1
    obtain ⟨_, v19, ⟨v22, v24, v27, v28, v29, v33, v20⟩, ef, ej, _⟩ := en
    rcases h with ⟨h1, h2, h3, _⟩ | ⟨what, rs, rn, hd8, op, h5, h6, _⟩
    · rw [h1]
      exact PZ_E p1 (fun _ _ => rfl) (by rw [h2]; exact Int.le_refl _) h3
    · have sA : As w U1 (w * 120 + U 19 w) := ⟨by omega, by rw [e1 19 rfl]; omega⟩
      have ab1 : ∀ i, 0 ≤ i → i < S 55 0 → Ab w U1 (S 56 i) := fun i i0 i1 => by
        have := ab i i0 i1
        unfold Ab at this ⊢
        rw [e1 40 rfl, ef 40 (by decide)]
        exact this
      refine PZ_opn op.1 (Or.inr ⟨sA, ⟨d1, by rw [e1 22 rfl]; exact v22⟩, by rw [e1 20 rfl, v20]; exact rs, Or.inl ⟨rn.1, rn.2.1, rn.2.2, rfl, rfl, by rw [e1 27 rfl]; exact v27, fun _ => by rw [e1 28 rfl]; exact v28, fun _ => by rw [e1 29 rfl]; exact v29⟩⟩) pw1 p1 ab1 (by rw [e1 40 rfl, ef 40 (by decide)]; exact b40) w0 ⟨by omega, hd8⟩ h5 h6
  · obtain ⟨d1, ev⟩ := ev
    have hb := ab (S 55 0 - 1) (by omega) (by omega)
    have p' := p
    obtain ⟨za, zb, zc, zd, g, g1, g2⟩ := p'
    obtain ⟨q1, q2, q3, q4⟩ := g2 (S 55 0 - 1) (by omega) (by omega)
    -- the state with that block closed
    have pc : ∀ (Y : tSt), Y 55 0 = S 55 0 - 1 → Y 56 = S 56 → PZ w Y U := fun Y h1 h2 => PZ_E p (fun _ _ => rfl) (by omega) h2
    have d2 : U 41 (S 56 (S 55 0 - 1)) ≠ 0 → 2 ≤ S 55 0 ∧ U 22 (U 42 (S 56 (S 55 0 - 1))) = S 56 (S 55 0 - 1 - 1) ∧ As w U (U 42 (S 56 (S 55 0 - 1))) := fun z => by
      rcases (pw.2 _ hb).1 with ⟨y, _⟩ | ⟨_, y, _⟩
      · exact absurd y z
      · have g3 := (g1 _ hb).2.2 z
        have g4 := (g1 _ (pw.1 _ y)).1
        have d22 : 2 ≤ S 55 0 := by omega
        exact ⟨d22, (q2 (by omega)).2, y⟩
    have rs : U 41 (S 56 (S 55 0 - 1)) ≠ 0 → rsO (U 41 (S 56 (S 55 0 - 1))) (U 20 (U 42 (S 56 (S 55 0 - 1)))) := fun z => ((za _ hb).2 z).2
    rcases ev with ⟨n, e1, _, _, _, _, _, h5, h6, _⟩ | ⟨what, f, h, op, h5, h6, _⟩ | ⟨n, V, h, u33, e1, e33, _, _, n0, op, h5, h6, _⟩
    · exact PZ_E p e1 (by omega) h6
    · have rz : U 41 (S 56 (S 55 0 - 1)) ≠ 0 := by omega
      obtain ⟨d22, y1, y2⟩ := d2 rz
      have r := rs rz
      let Y : tSt := up S 55 0 (S 55 0 - 1)
      have y55 : Y 55 0 = S 55 0 - 1 := up_s
      have y56 : Y 56 = S 56 := up_n (by decide)
      refine PZ_opn (S := Y) op.1 (Or.inr ⟨y2, ⟨by omega, by rw [y55, y56]; exact y1⟩, ?_, ?_⟩) pw (pc Y y55 y56) (fun i i0 i1 => by rw [y56]; exact ab i i0 (by omega)) b40 w0 ⟨by omega, by omega⟩ (by omega) (fun j => by rw [h6 j, y55, y56])
      · unfold rsO at r ⊢
        rcases h with ⟨h1, h2, h3⟩ | ⟨h1, h2, h3⟩
        · omega
        · omega
      · rcases h with ⟨h1, h2, h3⟩ | ⟨h1, h2, h3⟩
        · exact Or.inr (Or.inl ⟨h1, h2, rfl, q3 h3⟩)
        · exact Or.inr (Or.inr ⟨h1, h2, rfl, q4 h3⟩)
    · have rz : U 41 (S 56 (S 55 0 - 1)) ≠ 0 := by omega
      obtain ⟨d22, y1, y2⟩ := d2 rz
      have r := rs rz
      let Y : tSt := up S 55 0 (S 55 0 - 1)
      have y55 : Y 55 0 = S 55 0 - 1 := up_s
      have y56 : Y 56 = S 56 := up_n (by decide)
      have b4 := b33 (U 42 (S 56 (S 55 0 - 1)))
      exact PZ_cat (S := Y) op.1 e33 e1 ⟨rfl, b4.1, by omega⟩ b33 y2 (by omega) (by rw [y55, y56]; exact y1) (by unfold rsO at r; omega) (q4 h) pw (pc Y y55 y56) (fun i i0 i1 => by rw [y56]; exact ab i i0 (by omega)) b40 w0 (by omega) (by omega) (fun j => by rw [h6 j, y55, y56])
theorem PZ_go {X Y : tSt × tSt} (g : tGo w X Y) (w0 : 0 ≤ w ∧ w ≤ 1) (hP : PI w X.1 X.2) (qv : QV X.2) (pr : PR w X.2) (p : PZ w X.1 X.2) (e : Y.1 52 0 = -1) : PZ w Y.1 Y.2 := by
  obtain ⟨n, rfl⟩ := g
  exact run_inv (PZ w) w0 (fun S U h q r m p z => PZ_ev (ev_step h w0.1 q m z) h w0.1 q r p) n _ _ hP qv pr p e
/-- at the beginning -/
theorem PZ_0 (h19 : U 19 w = 0) (h40 : U 40 w = 0) (h9 : U 9 w = 0) (h55 : S 55 0 = 0) : PZ w S U := by
  refine ⟨fun b hb => ?_, fun s hs => ?_, fun m m0 m1 => by omega, fun b hb => ?_, fun _ => 0, fun b hb => ?_, fun i i0 i1 => by omega⟩
  · have := hb.1; have := hb.2; omega
  · have := hs.1; have := hs.2; omega
  · have := hb.1; have := hb.2; omega
  · have := hb.1; have := hb.2; omega
end PZW
