/-! PURE: what stands around, and mistakes, under FX *-/
section FX2
variable {w x b s c z k : Int} {U U' : tSt} {v : vT} {A : Nat → Int → Nat}
theorem AR_fx (h : FX w z U U') (p : PQ w U) (qv : QV U) : ∀ (d : Nat) (b : Int) (o : Option Nat), Ab w U b → AR v A U d b o → AR v A U' d b o := by
  intro d
  induction d with
  | zero => intro b o _ z; exact z
  | succ d ih =>
    intro b o hb x
    rw [AR] at x ⊢
    obtain ⟨b0, x⟩ := x
    refine ⟨b0, ?_⟩
    rw [h.fb (f := 41) hb (by decide) (by decide), h.fb (f := 42) hb (by decide) (by decide), h.fb (f := 43) hb (by decide) (by decide)]
    obtain ⟨p1, _, _, p4⟩ := p.2.1 b hb
    rcases p1 with ⟨q1, q2⟩ | ⟨q1, q2, q3⟩
    · rcases x with x | ⟨x1, x2, _⟩ | ⟨x1, x2, _⟩ | ⟨x1, x2, _⟩ | ⟨x1, x2, _⟩ | ⟨x1, x2, _⟩ | ⟨x1, x2, _⟩
      · exact Or.inl x
      all_goals exact absurd q2 x2
    · have m := fun o => ih (U 22 (U 42 b)) o (p.1 _ q2).1
      rw [h.fs (f := 22) q2 (by decide) (by decide) (by decide) (Or.inr (Or.inr (Or.inl rfl)))]
      rcases x with x | ⟨x1, x2, x3⟩ | ⟨x1, x2, a, o', x3, x4, x5⟩ | ⟨x1, x2, a, o', x3, x4, x5⟩ | ⟨x1, x2, a, o', x3, x4, x5⟩ | ⟨x1, x2, a, a2, o', x3, x4, x5, x6, x7, x8⟩ | ⟨x1, x2, a, o', x3, x4, x5⟩
      · exact Or.inl x
      · exact Or.inr (Or.inl ⟨x1, x2, m _ x3⟩)
      · exact Or.inr (Or.inr (Or.inl ⟨x1, x2, a, o', x3, x4, m _ x5⟩))
      · exact Or.inr (Or.inr (Or.inr (Or.inl ⟨x1, x2, a, o', x3, x4, m _ x5⟩)))
      · exact Or.inr (Or.inr (Or.inr (Or.inr (Or.inl ⟨x1, x2, a, o', x3, x4, m _ x5⟩))))
      · refine Or.inr (Or.inr (Or.inr (Or.inr (Or.inr (Or.inl ⟨x1, x2, a, a2, o', x3, x4, x5, ?_, x7, m _ x8⟩)))))
        have b33 := QV_b qv (f := 33) (c := 4) rfl rfl rfl (U 42 b)
        have p5 := p4 x1
        have e4 : (4 * U 42 b + U 43 b) / 4 = U 42 b := by omega
        unfold CN
        rw [h.fc (c := 4 * U 42 b + U 43 b) (f := 35) (by rw [e4]; exact q2) (by rw [e4]; omega) (by rw [e4]; omega) (by decide)]
        exact x6
      · exact Or.inr (Or.inr (Or.inr (Or.inr (Or.inr (Or.inr ⟨x1, x2, a, o', x3, x4, m _ x5⟩)))))
theorem mKind_fx (h : FX w z U U') (w0 : 0 ≤ w ∧ w ≤ 1) (n3 : 4 ≤ U 3 w ∧ U 3 w ≤ 16) (k1 : k < 16) : mKind U' w k = mKind U w k := by
  unfold mKind
  rw [kO_fx h w0 n3, kO_fx h w0 n3, h.fk (f := 4) (by decide) (by omega), h.fk (f := 5) (by decide) (by omega), h.fk (f := 7) (by decide) (by omega), h.fk (f := 8) (by decide) (by omega)]
theorem mO_fx (h : FX w z U U') (w0 : 0 ≤ w ∧ w ≤ 1) (n9 : 0 ≤ U 9 w ∧ U 9 w ≤ 12) : mO U' w x = mO U w x := by
  unfold mO
  rw [h.fk (by decide) (by omega)]
  refine tFst_congr _ _ (fun j a b => ?_)
  rw [h.fk (f := 10) (by decide) (by omega)]
theorem mPm_fx (h : FX w z U U') (w0 : 0 ≤ w ∧ w ≤ 1) (n3 : 4 ≤ U 3 w ∧ U 3 w ≤ 16) (n9 : 0 ≤ U 9 w ∧ U 9 w ≤ 12) (qv : QV U) (k1 : k < 12) : mPm U' w k = mPm U w k := by
  have b15 := QV_b qv (f := 15) (c := 4) rfl rfl rfl (w * 12 + k)
  unfold mPm
  rw [mO_fx h w0 n9, h.fk (f := 10) (by decide) (by omega), h.fk (f := 11) (by decide) (by omega), h.fk (f := 15) (by decide) (by omega)]
  congr 1
  refine tCat_congr _ _ (fun i i0 i1 => ?_)
  rw [kO_fx h w0 n3, h.fk (f := 16) (by decide) (by omega), h.fk (f := 17) (by decide) (by omega)]
theorem mPs_fx (h : FX w z U U') (p : PQ w U) (qv : QV U) (w0 : 0 ≤ w ∧ w ≤ 1) (n3 : 4 ≤ U 3 w ∧ U 3 w ≤ 16) (hs : As w U s) (hz : s ≠ z) : mPs U' w s = mPs U w s := by
  have ab := (p.1 s hs).1
  have e := fun f h1 h2 h3 => h.fs (f := f) hs h1 h2 h3 (Or.inl hz)
  have b30 := QV_b qv (f := 30) (c := 4) rfl rfl rfl s
  have b33 := QV_b qv (f := 33) (c := 4) rfl rfl rfl s
  unfold mPs
  rw [e 20 (by decide) (by decide) (by decide), e 22 (by decide) (by decide) (by decide), e 25 (by decide) (by decide) (by decide), e 26 (by decide) (by decide) (by decide), e 30 (by decide) (by decide) (by decide), e 33 (by decide) (by decide) (by decide), pO_fx h p qv w0.1 ab, kO_fx h w0 n3]
  have m3 : mSet U' s (pO U (U 25 s) (U 22 s)).1 (pO U (U 25 s) (U 22 s)).2 = mSet U s (pO U (U 25 s) (U 22 s)).1 (pO U (U 25 s) (U 22 s)).2 := by
    unfold mSet
    rw [e 26 (by decide) (by decide) (by decide)]
    by_cases y : (pO U (U 25 s) (U 22 s)).1 = -1
    · rw [if_pos y, if_pos y]
    · rw [if_neg y, if_neg y]
      obtain ⟨q1, q2, q3⟩ := pO_As p qv w0.1 ab y
      rw [h.fc (f := 37) q1 q2 (QV_b qv (f := 33) (c := 4) rfl rfl rfl _).2 (by decide)]
  rw [m3]
  congr 1
  congr 1
  congr 1
  · refine tCat_congr _ _ (fun i i0 i1 => ?_)
    rw [h.fn (f := 35) hs (by decide) i0 (by omega) hz, h.fn (f := 36) hs (by decide) i0 (by omega) hz, h.fn (f := 37) hs (by decide) i0 (by omega) hz, pO_fx h p qv w0.1 ab]
    congr 1
    have b37 := QV_b qv (f := 37) (c := 4) rfl rfl rfl (4 * s + i)
    have e4 : (4 * s + i) / 4 = s := by omega
    refine tCat_congr _ _ (fun k k0 k1 => ?_)
    have hc : As w U ((4 * s + i) / 4) := by rw [e4]; exact hs
    have hr : (4 * s + i) % 4 < U 33 ((4 * s + i) / 4) := by rw [e4]; omega
    unfold cK
    rw [h.fm (f := 38) hc hr (by decide) k0 (by omega), h.fm (f := 39) hc hr (by decide) k0 (by omega), kO_fx h w0 n3]
  · congr 1
    refine tCat_congr _ _ (fun k k0 k1 => ?_)
    rw [h.fn (f := 31) hs (by decide) k0 (by omega) hz, h.fn (f := 32) hs (by decide) k0 (by omega) hz, kO_fx h w0 n3]
end FX2
