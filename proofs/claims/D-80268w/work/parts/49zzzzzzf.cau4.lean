/-! COMPONENT, 73: blocks of catches *-/
section CA4
variable {r a e e2 : Nat} {h : am_H} {R : Nat → Nat} {A : Nat → Int → Nat} {T : Nat → Nat} {w s p0 x p c num i : Int} {v : vT} {S U : tSt} {o z : Option Nat} {N : List (Int × Int)}
theorem tRg_34 : tRg s N x p (up U 34 (4 * s + U 33 s) (-1)) = up (tRg s N x p U) 34 (4 * s + U 33 s) (-1) := by
  have e33 : up U 34 (4 * s + U 33 s) (-1) 33 = U 33 := up_n (by decide)
  have e : ∀ f, f ≠ 34 → up U 34 (4 * s + U 33 s) (-1) f = U f := fun f hf => up_n hf
  funext f j
  by_cases q : f = 34
  · rw [q, tRg_o (by decide), up_eq, up_eq, tRg_o (by decide)]
  · rw [up_n q]
    have v1 := tRg_v (s := s) (N := N) (x := x) (p := p) (U := up U 34 (4 * s + U 33 s) (-1)) j
    have v2 := tRg_v (s := s) (N := N) (x := x) (p := p) (U := U) j
    rw [e33, e 35 (by decide), e 36 (by decide), e 37 (by decide), e 38 (by decide), e 39 (by decide)] at v1
    by_cases g : f = 33 ∨ f = 35 ∨ f = 36 ∨ f = 37 ∨ f = 38 ∨ f = 39
    · rcases g with g | g | g | g | g | g
      · rw [g, v1.1, v2.1]
      · rw [g, v1.2.1, v2.2.1]
      · rw [g, v1.2.2.1, v2.2.2.1]
      · rw [g, v1.2.2.2.1, v2.2.2.2.1]
      · rw [g, v1.2.2.2.2.1, v2.2.2.2.2.1]
      · rw [g, v1.2.2.2.2.2, v2.2.2.2.2.2]
    · rw [tRg_o (by omega), tRg_o (by omega), e f q]
theorem QV_rg {what own : Int} (qv : QV U) (q2 : QV (tOpn w what own num 34 i S (tRg s N x p (up U 34 (4 * s + U 33 s) (-1)))).2) : QV (tRg s N x p (up U 34 (4 * s + U 33 s) (-1))) := by
  intro f j
  by_cases g : f = 34
  · have q0 := QV_x (f := 34) (j := 4 * s + U 33 s) (x := -1) qv rfl rfl (by omega) (by omega)
    have y := q0 f j
    rw [g] at y ⊢
    rw [tRg_o (by decide)]
    exact y
  · by_cases g2 : f < 40
    · have y := q2 f j
      unfold tOpn at y
      rw [show (tOS w S (tRg s N x p (up U 34 (4 * s + U 33 s) (-1))), up (tOU w what own num S (tRg s N x p (up U 34 (4 * s + U 33 s) (-1)))) 34 i (tOR w S (tRg s N x p (up U 34 (4 * s + U 33 s) (-1))))).2 = up (tOU w what own num S (tRg s N x p (up U 34 (4 * s + U 33 s) (-1)))) 34 i (tOR w S (tRg s N x p (up U 34 (4 * s + U 33 s) (-1)))) from rfl, up_n g, tOU_o (Or.inl g2)] at y
      exact y
    · have y := qv f j
      rw [tRg_o (by omega), up_n g]
      exact y
/-- what stands around the block of a catch -/
theorem AR_6 (pr : PR w U) (qv : QV U) (hs : As w U s) (w0 : 0 ≤ w) (h : tIsO S = true) (hx : FX w s U (oU w 6 s num 34 i S U)) (ar : AR v A U (U 22 s + 2).toNat (U 22 s) o) (n0 : 0 ≤ num)
    (ao1 : AO v e2 (some e) none (some (A 4 (4 * s + num))) false none) (ao2 : AO v e o none none false (some (A 2 s))) (cn : CN v A (oU w 6 s num 34 i S U) (4 * s + num)) : AR v A (oU w 6 s num 34 i S U) (w * 1024 + U 40 w + 2).toNat (w * 1024 + U 40 w) (some e2) := by
  obtain ⟨o1, o2, o3, o4, o5, o6⟩ := oU_v (w := w) (what := 6) (own := s) (num := num) (f := 34) (i := i) (U := U) h (by decide)
  have ab := (pr.1.1 s hs).1
  have ab1 := ab.1
  have ab2 := ab.2
  have nb := pr.2.1
  have s0 : s ≠ -1 := by have := hs.1; omega
  have s1 : 0 ≤ s := by have := hs.1; omega
  have e22 : oU w 6 s num 34 i S U 22 = U 22 := oU_o (by decide) (by decide)
  have y : AR v A (oU w 6 s num 34 i S U) (w * 1024 + U 40 w + 1).toNat (U 22 s) o := AR_mono _ _ _ _ (by omega) (AR_fx hx pr.1 qv _ _ _ ab ar)
  rw [show (w * 1024 + U 40 w + 2).toNat = (w * 1024 + U 40 w + 1).toNat + 1 by omega, AR]
  rw [o2, o3, o4, e22]
  exact ⟨by omega, Or.inr (Or.inr (Or.inr (Or.inr (Or.inr (Or.inl ⟨rfl, s0, e2, e, o, rfl, ao1, ao2, cn, by omega, y⟩)))))⟩
/-- the body of a catch is set, its try in hand -/
theorem MD_c3 (md : MD R A T w s p0 v S U o) (hc : c / 4 = s) (hr : c % 4 < U 33 s) : MD R A T w s p0 (vpR v (A 4 c) 3 z) S U o := by
  obtain ⟨g, ⟨hP, pr, qv, w0⟩, q1, ar, hsA, e22, ch⟩ := md
  have g' := g
  obtain ⟨g1, g2, g3, g4, g5, g6, ⟨g7, g8, g9⟩, ⟨L, ga, gb⟩, gc, gd, ge, gf, gg, gh, gj⟩ := g'
  have hsc : As w U (c / 4) := by rw [hc]; exact hsA
  have hrc : c % 4 < U 33 (c / 4) := by rw [hc]; exact hr
  obtain ⟨cf, _, _⟩ := gg c hsc hrc
  have kc := cf.1
  have f : Fw (fun b k => b = A 4 c ∧ k = 3) v (vpR v (A 4 c) 3 z) := Fw.refl.pR (Or.inr ⟨rfl, rfl⟩)
  have k0 := g1.w0.1
  have nc0 : A 4 c ≠ R 0 := fun q => by rw [q, k0] at kc; exact absurd kc (by decide)
  have nc1 : A 4 c ≠ R 1 := fun q => by have := g1.w0.2.2; rw [← q, kc] at this; exact absurd this (by decide)
  have nc3 : A 4 c ≠ R 3 := fun q => by have := g2.2.2.1; rw [← q, kc] at this; exact absurd this (by decide)
  have b19 := QV_b qv (f := 19) (c := 120) rfl rfl rfl w
  have b9 := QV_b qv (f := 9) (c := 12) rfl rfl rfl w
  have xz : XZ v T (hN v.1) (fun b k => b = A 4 c ∧ k = 3) := fun b k y _ => Or.inr (Or.inr (Or.inr (Or.inl ⟨Or.inl y.2, by rw [y.1]; exact cf.2.1⟩)))
  have G : GI R A T w s p0 (vpR v (A 4 c) 3 z) S U := by
    refine GI_mv (s := s) (z := hN v.1) g (FU.refl.fx (Int.le_refl _)) pr.1 qv w0 b9 b19.2 rfl AE.refl f xz (Or.inr (Nat.le_refl _)) (fun k y => by have := hK_lt kc (by decide); omega) (fun y => nc0 y.1.symm) (fun y => nc0 y.1.symm) (by rw [(f.ff (k := 9) (hK_lt k0 (by decide)) (fun y => nc0 y.1.symm)).1]; exact g9) (PT_fw f g1 (fun k _ y => nc0 y.1.symm) (fun k y => nc1 y.1.symm) (fun b y => by omega)) g4 (TG_fw f g5) ?_ ⟨L, ML_fw f ga (fun y => by omega) (fun b k y hk => by omega), gb⟩ (fun j hj hp => Or.inr ⟨fun q => hp (Or.inl q), fun y => hp y⟩) (fun b hb ho => Or.inr ⟨hb, ho⟩) (fun j hj hl => ?_) (fun d hd hr' => ?_) gh gj
    · refine GL_mv g6 AE.refl f rfl k0 g2.2.2.1 g.k9 (fun k hk y => nc0 y.1.symm) (fun y => nc3 y.1.symm) (fun y => by omega) [] [] [] (fun k hk => by simp at hk) (by rw [List.append_nil]) (by rw [List.append_nil]) (by rw [List.append_nil]) ?_ ?_ ?_ ?_ ?_ (fun k _ _ => rfl)
      · rw [(f.cc (hK_lt g6.2.1.2.1 (by decide)) (fun y => by omega)).1]
        simp
      · rw [(f.cc (hK_lt g6.2.2.2.1.2.1 (by decide)) (fun y => by omega)).1]
        simp
      · rw [(f.cc (hK_lt g6.2.2.2.2.1.2.1 (by decide)) (fun y => by omega)).1]
        simp
      · rw [List.map_nil, List.append_nil]
        exact IL_fw f (fun y => by omega) (fun b k y => by rw [y.1, kc]; decide) g6.2.2.1.2
      · rw [List.map_nil, List.append_nil]
        exact IL_fw f (fun y => by omega) (fun b k y => by rw [y.1, kc]; decide) g6.2.2.2.2.2.1.2
    · have lb := gf j hj hl
      exact LB_keep AE.refl f hj lb (fun y => by omega) (fun y => by omega) rfl
    · obtain ⟨c1, c2, c3⟩ := gg d hd hr'
      refine ⟨Or.inr hr', ?_, fun hp => ?_⟩
      · rw [(f.ff (k := 4) (hK_lt c1.1 (by decide)) (fun y => by omega)).1]
        exact c2
      · have nd : A 4 d ≠ A 4 c := fun q => by
          have := gh d c hd hr' hsc hrc q
          exact hp (Or.inl (by rw [this]; exact hc))
        rw [(f.ff (k := 3) (hK_lt c1.1 (by decide)) (fun y => nd y.1)).2.2]
        exact c3 hp
  exact ⟨G, ⟨hP, pr, qv, w0⟩, q1, AR_fw f (fun b k y => by rw [y.1, kc]; exact ⟨by decide, fun _ => by omega, fun q => by omega⟩) _ _ _ ar, hsA, e22, ch⟩
end CA4
