/-! COMPONENT, 63: try: its sort, its names *-/
section TRY
variable {r a : Nat} {h : am_H} {R : Nat → Nat} {A Ah : Nat → Int → Nat} {T Th T' : Nat → Nat} {w s b0 p0 c d : Int} {v v' vh : vT} {S S' Uh U : tSt} {o : Option Nat} {N : List (Int × Int)} {Q : am_O → am_H → Prop}
theorem GI_try (g : GI R A T w s p0 v S U) (pr : PR w U) (qv : QV U) (w0 : 0 ≤ w ∧ w ≤ 1) (hs : s = w * 120 + (U 19 w - 1)) (n1 : 1 ≤ U 19 w) (u20 : U 20 s = 0) (u33 : U 33 s = 0)
    (f : Fw (fun b k => b = R 12 ∧ k = 99) v v') (l12 : vLs v' (R 12) = vLs v (R 12) ++ [some (A 2 s)]) : GI R A T w s p0 v' S (up U 20 s 9) := by
  have h : FX w s U (up U 20 s 9) := FX_up (FU.refl.fx (Int.le_refl _)) (by decide) (by decide) (by decide) (Or.inl ⟨rfl, Or.inl rfl⟩)
  have e : ∀ f, f ≠ 20 → up U 20 s 9 f = U f := fun f hf => up_n hf
  have v20 : up U 20 s 9 20 s = 9 := up_s
  have e19 : up U 20 s 9 19 w = U 19 w := by rw [e 19 (by decide)]
  have hsA : As w U s := ⟨by omega, by omega⟩
  have pq := pr.1
  have b19 := QV_b qv (f := 19) (c := 120) rfl rfl rfl w
  have b9 := QV_b qv (f := 9) (c := 12) rfl rfl rfl w
  have g' := g
  obtain ⟨g1, g2, g3, g4, g5, g6, ⟨g7, g8, g9⟩, ⟨L, ga, gb⟩, gc, gd, ge, gf, gg, gh, gj⟩ := g'
  have n3 := g3.2.2.2
  have o20 : ∀ j, As w U j → j ≠ s → up U 20 s 9 20 j = U 20 j := fun j hj hn => h.fs hj (by decide) (by decide) (by decide) (Or.inl hn)
  have lp : ∀ j, As w U j → up U 20 s 9 20 j = 5 ∨ up U 20 s 9 20 j = 6 → j ≠ s ∧ (U 20 j = 5 ∨ U 20 j = 6) := fun j hj hl => by
    by_cases z : j = s
    · rw [z, v20] at hl
      omega
    · rw [o20 j hj z] at hl
      exact ⟨z, hl⟩
  have k0 := g1.w0.1
  have k9 := g.k9
  obtain ⟨t8, t9, t10, t11, t12, t13, t14⟩ := g6.2.2.2.2.2.2.1
  obtain ⟨m1, m2, m3, m4, m5, m6, m7, m8, m9, ma, mb⟩ := g6.2.2.2.2.2.2.2.1
  obtain ⟨mc, md9, me, mf, mg, mh, mi, mj, mk, mm⟩ := g6.2.2.2.2.2.2.2.2
  have k12 := g6.2.2.2.1.2.1
  have xz : XZ v T (hN v.1) (fun b k => b = R 12 ∧ k = 99) := fun c k y _ => Or.inr (Or.inr (Or.inl ⟨y.2, by rw [y.1, t12]; decide⟩))
  have so1 : stL (up U 20 s 9) w (fun k => decide (up U 20 s 9 20 k = 1)) = stL U w (fun k => decide (U 20 k = 1)) ++ [] := by
    rw [List.append_nil]
    exact stL_fx h e19 (fun k hk hn => by rw [o20 k hk hn]) (fun _ => by rw [v20, u20]; rfl)
  have so9 : stL (up U 20 s 9) w (fun k => decide (up U 20 s 9 20 k = 9)) = stL U w (fun k => decide (U 20 k = 9)) ++ [s] := by
    rw [stL_l (p := fun k => decide (U 20 k = 9)) h e19 n1 hs (fun k hk hn => by rw [o20 k hk hn]) (by rw [u20]; rfl), v20]
    rfl
  have oo : stL (up U 20 s 9) w (isO (up U 20 s 9)) = stL U w (isO U) ++ [] := by
    rw [List.append_nil]
    refine stL_fx h e19 (fun k hk hn => ?_) (fun _ => by unfold isO; rw [v20, u20]; rfl)
    unfold isO
    rw [o20 k hk hn, e 25 (by decide), e 22 (by decide), pO_fx h pq qv w0.1 (pq.1 k hk).1]
  have pn : ∀ j, pnd S (up U 20 s 9) s j ↔ pnd S U s j := fun j => by unfold pnd; rw [e 42 (by decide)]
  have t' : PT v' (R 0) (R 1) (R 2) S := PT_fw f g1 (fun k hk y => by omega) (fun k y => by have := g1.w0.2.2; rw [y.1, k12] at this; exact absurd this (by decide)) (fun b y => by rw [y.1, k12]; decide)
  have ig : ∀ c k, (c = R 12 ∧ k = 99) → hK v.1 c ≠ 8 ∧ hK v.1 c ≠ 9 := fun c k y => by rw [y.1, k12]; decide
  refine GI_mv (s := s) (z := hN v.1) g h pq qv w0 b9 b19.2 e19 AE.refl f xz (Or.inr (Nat.le_refl _)) (fun k y => by have := hK_lt k12 (by decide); omega) (fun y => by omega) (fun y => by omega) (by rw [(f.ff (hK_lt k0 (by decide)) (fun y => by omega)).1]; exact g9) t' g4 (TG_fw f g5) ?_ ⟨L, ?_, ?_⟩ (fun j hj hp => ?_) (fun c hc ho => ?_) (fun j hj hl => ?_) (fun c hc hr => ?_) ?_ ?_
  · refine GL_mv g6 AE.refl f e19 k0 g2.2.2.1 k9 (fun k hk y => by omega) (fun y => by omega) (fun y => m4 y.1) [] [s] [] (fun k hk => ?_) so1 so9 oo ?_ ?_ ?_ ?_ ?_ (fun k _ _ => by rw [e 26 (by decide)])
    · simp only [List.append_nil, List.nil_append] at hk
      rw [List.mem_singleton.mp hk]
      exact hsA
    · rw [(f.cc (hK_lt g6.2.1.2.1 (by decide)) (fun y => md9 y.1)).1]
      simp
    · rw [l12]
      rfl
    · rw [(f.cc (hK_lt g6.2.2.2.2.1.2.1 (by decide)) (fun y => mj y.1.symm)).1]
      simp
    · rw [List.map_nil, List.append_nil]
      exact IL_fw f (fun y => mg y.1) ig g6.2.2.1.2
    · rw [List.map_nil, List.append_nil]
      exact IL_fw f (fun y => mk y.1.symm) ig g6.2.2.2.2.2.1.2
  · exact ML_fw f ga (fun y => m9 y.1) (fun c k y hk => by omega)
  · have m0 : mPs U w s = [] := by unfold mPs; rw [u20]; rfl
    have m1 : mPs (up U 20 s 9) w s = [] := by
      unfold mPs
      rw [v20, e 33 (by decide), u33]
      rfl
    have := mPar_px (E := []) h pq qv w0 n3 b9 e19 hsA (by rw [m0, m1]; exact List.Perm.refl _)
    rw [List.append_nil] at this
    exact gb.trans this.symm
  · exact Or.inr ⟨fun y => hp (Or.inl y), fun y => hp ((pn j).mpr y)⟩
  · refine Or.inr ⟨?_, ho⟩
    unfold Ab at hc ⊢
    rw [e 40 (by decide)] at hc
    exact hc
  · obtain ⟨hn, hl'⟩ := lp j hj hl
    have lb := gf j hj hl'
    refine LB_keep AE.refl f hj lb (fun y => by omega) (fun y => by have := lb.2.2.2.1; rw [y.1, t12] at this; exact absurd this (by decide)) ?_
    exact stL_fx h e19 (fun i hi hn => by rw [o20 i hi hn, tgt_fx h pq hi]) (fun _ => by rw [v20, u20]; rfl)
  · rw [e 33 (by decide)] at hr
    obtain ⟨c1, c2, c3⟩ := gg c hc hr
    have q := fun j (hj : j ≠ 99) => f.ff (k := j) (hK_lt c1.1 (by decide)) (fun y => hj y.2)
    refine ⟨Or.inr hr, ?_, fun hp => ?_⟩
    · rw [(q 4 (by decide)).1, c2, isS_fx h pq qv w0.1 e19 (by omega) (by omega)]
    · rw [(q 3 (by decide)).2.2, e 34 (by decide)]
      exact c3 (fun y => hp ((pn _).mpr y))
  · rw [e 33 (by decide)]
    exact gh
  · exact fun i d hi hl hd hq y => gj i d hi (lp i hi hl).2 hd (lp d hd hq).2 y
/-- the names of a try come into the rows -/
theorem GI_nam (g : GI R A T w s p0 v S U) (pr : PR w U) (qv : QV U) (w0 : 0 ≤ w ∧ w ≤ 1) (hsA : As w U s) (u20 : U 20 s = 9) (u30 : U 30 s = 0) (hNl : N.length ≤ 4) : GI R A T w s p0 v S (nW 30 31 32 s N U) := by
  have h : FX w s U (nW 30 31 32 s N U) := nW_fx hNl u30
  have e : ∀ f, f ≠ 30 → f ≠ 31 → f ≠ 32 → nW 30 31 32 s N U f = U f := fun f h1 h2 h3 => nW_f h1 h2 h3
  have e20 := e 20 (by decide) (by decide) (by decide)
  have e22 := e 22 (by decide) (by decide) (by decide)
  have e25 := e 25 (by decide) (by decide) (by decide)
  have e26 := e 26 (by decide) (by decide) (by decide)
  have e33 := e 33 (by decide) (by decide) (by decide)
  have e19 : nW 30 31 32 s N U 19 w = U 19 w := by rw [e 19 (by decide) (by decide) (by decide)]
  have pq := pr.1
  have b19 := QV_b qv (f := 19) (c := 120) rfl rfl rfl w
  have b9 := QV_b qv (f := 9) (c := 12) rfl rfl rfl w
  have g' := g
  obtain ⟨g1, g2, g3, g4, g5, g6, ⟨g7, g8, g9⟩, ⟨L, ga, gb⟩, gc, gd, ge, gf, gg, gh, gj⟩ := g'
  have n3 := g3.2.2.2
  have k0 := g1.w0.1
  have k9 := g.k9
  have so : ∀ j, stL (nW 30 31 32 s N U) w (fun k => decide (nW 30 31 32 s N U 20 k = j)) = stL U w (fun k => decide (U 20 k = j)) ++ [] := fun j => by
    rw [List.append_nil, e20]
    unfold stL
    rw [e19]
  have oo : stL (nW 30 31 32 s N U) w (isO (nW 30 31 32 s N U)) = stL U w (isO U) ++ [] := by
    rw [List.append_nil]
    have : ∀ k, As w U k → isO (nW 30 31 32 s N U) k = isO U k := fun k hk => by
      unfold isO
      rw [e20, e25, e22, pO_fx h pq qv w0.1 (pq.1 k hk).1]
    exact stL_fx h e19 (fun k hk _ => this k hk) (fun hk => this _ hk)
  have pn : ∀ j, pnd S (nW 30 31 32 s N U) s j ↔ pnd S U s j := fun j => by unfold pnd; rw [e 42 (by decide) (by decide) (by decide)]
  refine GI_mv (s := s) (z := hN v.1) (X := fun _ _ => False) g h pq qv w0 b9 b19.2 e19 AE.refl Fw.refl (fun _ _ y => y.elim) (Or.inr (Nat.le_refl _)) (fun _ y => y.elim) (fun y => y) (fun y => y) g9 g1 g4 g5 ?_ ⟨L, ga, ?_⟩ (fun j hj hp => ?_) (fun c hc ho => ?_) (fun j hj hl => ?_) (fun c hc hr => ?_) ?_ ?_
  · refine GL_mv (X := fun _ _ => False) g6 AE.refl Fw.refl e19 k0 g2.2.2.1 k9 (fun _ _ y => y) (fun y => y) (fun y => y) [] [] [] (fun k hk => by simp at hk) (so 1) (so 9) oo (by simp) (by simp) (by simp) ?_ ?_ (fun k _ _ => by rw [e26])
    · rw [List.map_nil, List.append_nil]
      exact g6.2.2.1.2
    · rw [List.map_nil, List.append_nil]
      exact g6.2.2.2.2.2.1.2
  · have m1 : mPs (nW 30 31 32 s N U) w s = mPs U w s := by
      unfold mPs cK
      have k := fun x a => kO_fx h w0 n3 (x := x) (a := a)
      have p := fun x => pO_fx h pq qv w0.1 (x := x) (pq.1 s hsA).1
      rw [e20, u20, if_neg (by decide), if_neg (by decide), if_pos rfl, if_neg (by decide), if_neg (by decide), if_pos rfl, e33, e22, e 35 (by decide) (by decide) (by decide), e 36 (by decide) (by decide) (by decide), e 37 (by decide) (by decide) (by decide), e 38 (by decide) (by decide) (by decide), e 39 (by decide) (by decide) (by decide)]
      simp only [k, p]
    have := mPar_px (E := []) h pq qv w0 n3 b9 e19 hsA (by rw [m1, List.append_nil])
    rw [List.append_nil] at this
    exact gb.trans this.symm
  · exact Or.inr ⟨fun y => hp (Or.inl y), fun y => hp ((pn j).mpr y)⟩
  · refine Or.inr ⟨?_, ho⟩
    unfold Ab at hc ⊢
    rw [e 40 (by decide) (by decide) (by decide)] at hc
    exact hc
  · rw [e20] at hl
    have lb := gf j hj hl
    refine LB_keep (X := fun _ _ => False) AE.refl Fw.refl hj lb (fun y => y) (fun y => y) ?_
    exact stL_fx h e19 (fun k hk _ => by rw [e20, tgt_fx h pq hk]) (fun hk => by rw [e20, tgt_fx h pq hk])
  · rw [e33] at hr
    obtain ⟨c1, c2, c3⟩ := gg c hc hr
    refine ⟨Or.inr hr, ?_, fun hp => ?_⟩
    · rw [c2, isS_same h pq qv w0.1 e19 e20 e25]
    · rw [e 34 (by decide) (by decide) (by decide)]
      exact c3 (fun y => hp ((pn _).mpr y))
  · rw [e33]
    exact gh
  · rw [e20]
    exact gj
end TRY
