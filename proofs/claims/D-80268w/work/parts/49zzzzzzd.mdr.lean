/-! COMPONENT, 71: a try in hand with one more catch *-/
section MDR
variable {r ca lk l9 : Nat} {h : am_H} {R : Nat → Nat} {A Ah : Nat → Int → Nat} {T Th : Nat → Nat} {w s b0 p0 x p c d n m : Int} {v v' vh : vT} {S S' U Uh : tSt} {o : Option Nat} {N : List (Int × Int)} {L0 : List tMi}
/-- the block of a catch that is not yet registered -/
theorem FX_34 (h33 : 0 ≤ U 33 s ∧ U 33 s < 4) : FX w s U (up U 34 (4 * s + U 33 s) (-1)) := FX_up (FU.refl.fx (Int.le_refl _)) (by decide) (by decide) (by decide) (by unfold exm; omega)
theorem GI_34 (g : GI R A T w s p0 v S U) (pr : PR w U) (qv : QV U) (w0 : 0 ≤ w ∧ w ≤ 1) (hsA : As w U s) (h33 : 0 ≤ U 33 s ∧ U 33 s < 4) : GI R A T w s p0 v S (up U 34 (4 * s + U 33 s) (-1)) := by
  generalize hc : 4 * s + U 33 s = c
  have h : FX w s U (up U 34 c (-1)) := by rw [← hc]; exact FX_34 h33
  have e : ∀ f, f ≠ 34 → up U 34 c (-1) f = U f := fun f hf => up_n hf
  have e20 := e 20 (by decide)
  have e22 := e 22 (by decide)
  have e25 := e 25 (by decide)
  have e26 := e 26 (by decide)
  have e33 := e 33 (by decide)
  have e19 : up U 34 c (-1) 19 w = U 19 w := by rw [e 19 (by decide)]
  have pq := pr.1
  have b19 := QV_b qv (f := 19) (c := 120) rfl rfl rfl w
  have b9 := QV_b qv (f := 9) (c := 12) rfl rfl rfl w
  have g' := g
  obtain ⟨g1, g2, g3, g4, g5, g6, ⟨g7, g8, g9⟩, ⟨L, ga, gb⟩, gc, gd, ge, gf, gg, gh, gj⟩ := g'
  have n3 := g3.2.2.2
  have k0 := g1.w0.1
  have k9 := g.k9
  have so : ∀ j, stL (up U 34 c (-1)) w (fun k => decide (up U 34 c (-1) 20 k = j)) = stL U w (fun k => decide (U 20 k = j)) ++ [] := fun j => by
    rw [List.append_nil, e20]
    unfold stL
    rw [e19]
  have oo : stL (up U 34 c (-1)) w (isO (up U 34 c (-1))) = stL U w (isO U) ++ [] := by
    rw [List.append_nil]
    have : ∀ k, As w U k → isO (up U 34 c (-1)) k = isO U k := fun k hk => by
      unfold isO
      rw [e20, e25, e22, pO_fx h pq qv w0.1 (pq.1 k hk).1]
    exact stL_fx h e19 (fun k hk _ => this k hk) (fun hk => this _ hk)
  have pn : ∀ j, pnd S (up U 34 c (-1)) s j ↔ pnd S U s j := fun j => by unfold pnd; rw [e 42 (by decide)]
  refine GI_mv (s := s) (z := hN v.1) (X := fun _ _ => False) g h pq qv w0 b9 b19.2 e19 AE.refl Fw.refl (fun _ _ y => y.elim) (Or.inr (Nat.le_refl _)) (fun _ y => y.elim) (fun y => y) (fun y => y) g9 g1 g4 g5 ?_ ⟨L, ga, ?_⟩ (fun j hj hp => ?_) (fun b hb ho => ?_) (fun j hj hl => ?_) (fun d hd hr => ?_) ?_ ?_
  · refine GL_mv (X := fun _ _ => False) g6 AE.refl Fw.refl e19 k0 g2.2.2.1 k9 (fun _ _ y => y) (fun y => y) (fun y => y) [] [] [] (fun k hk => by simp at hk) (so 1) (so 9) oo (by simp) (by simp) (by simp) ?_ ?_ (fun k _ _ => by rw [e26])
    · rw [List.map_nil, List.append_nil]
      exact g6.2.2.1.2
    · rw [List.map_nil, List.append_nil]
      exact g6.2.2.2.2.2.1.2
  · have m1 : mPs (up U 34 c (-1)) w s = mPs U w s := mPs_same h pq qv w0 n3 hsA (fun g _ _ _ _ _ _ h7 => e g h7)
    have := mPar_px (E := []) h pq qv w0 n3 b9 e19 hsA (by rw [m1, List.append_nil])
    rw [List.append_nil] at this
    exact gb.trans this.symm
  · exact Or.inr ⟨fun y => hp (Or.inl y), fun y => hp ((pn j).mpr y)⟩
  · refine Or.inr ⟨?_, ho⟩
    unfold Ab at hb ⊢
    rw [e 40 (by decide)] at hb
    exact hb
  · rw [e20] at hl
    have lb := gf j hj hl
    refine LB_keep (X := fun _ _ => False) AE.refl Fw.refl hj lb (fun y => y) (fun y => y) ?_
    exact stL_fx h e19 (fun k hk _ => by rw [e20, tgt_fx h pq hk]) (fun hk => by rw [e20, tgt_fx h pq hk])
  · rw [e33] at hr
    obtain ⟨c1, c2, c3⟩ := gg d hd hr
    refine ⟨Or.inr hr, ?_, fun hp => ?_⟩
    · rw [c2, isS_same h pq qv w0.1 e19 e20 e25]
    · have nd : d ≠ c := fun q => by
        have e1 : c / 4 = s := by omega
        have e2 : c % 4 = U 33 s := by omega
        rw [q, e1, e2] at hr
        omega
      rw [up_eq, if_neg (fun q => nd q.2)]
      exact c3 (fun y => hp ((pn _).mpr y))
  · rw [e33]
    exact gh
  · rw [e20]
    exact gj
theorem PI_33 {V : tSt} (hP : PI w S U) (e : ∀ f, f ≠ 33 ∧ f ≠ 30 → pF f = false → V f = U f) (e30 : V 30 = U 30) (v33 : ∀ k, 0 ≤ V 33 k ∧ V 33 k ≤ 4) : PI w S V := by
  obtain ⟨h1, h2, h3, u1, u2, u3, u4, u5, u6, u7⟩ := hP
  refine ⟨h1, h2, h3, ?_⟩
  unfold PU
  rw [e 3 (by decide) rfl, e 9 (by decide) rfl, e 19 (by decide) rfl, e 40 (by decide) rfl, e 46 (by decide) rfl, e 41 (by decide) rfl, e 42 (by decide) rfl, e30]
  exact ⟨u1, u2, u3, u4, u5, u6, fun k k1 k2 => ⟨v33 k, (u7 k k1 k2).2⟩⟩
/-- the block of a new catch begins: what was in its row does not matter -/
theorem tOpn_34 {V : tSt} {i what own num : Int} : tOpn w what own num 34 i S (up V 34 i (-1)) = tOpn w what own num 34 i S V := by
  unfold tOpn tOS tOU tOR tOB
  rw [up_n (show (40 : Nat) ≠ 34 by decide)]
  by_cases q : tIsO S = true
  · rw [if_pos q, if_pos q, if_pos q, if_pos q]
    congr 1
    rw [up_swap (f := 46) (g := 34) (by decide), up_swap (f := 45) (g := 34) (by decide), up_swap (f := 44) (g := 34) (by decide), up_swap (f := 43) (g := 34) (by decide), up_swap (f := 42) (g := 34) (by decide), up_swap (f := 41) (g := 34) (by decide), up_swap (f := 40) (g := 34) (by decide), up_up]
    rw [up_swap (f := 46) (g := 34) (by decide), up_swap (f := 45) (g := 34) (by decide), up_swap (f := 44) (g := 34) (by decide), up_swap (f := 43) (g := 34) (by decide), up_swap (f := 42) (g := 34) (by decide), up_swap (f := 41) (g := 34) (by decide), up_swap (f := 40) (g := 34) (by decide)]
  · rw [if_neg q, if_neg q, if_neg q, if_neg q]
    congr 1
    rw [up_up]
end MDR
