/-! COMPONENT, 32: do and return come to their end *-/
section GDO
variable {R : Nat → Nat} {A : Nat → Int → Nat} {T : Nat → Nat} {w s b p0 k x : Int} {v : vT} {S S' U V : tSt} {f : Nat} {j : Int}
theorem FX_up {z : Int} (h : FX w z U V) (h19 : f ≠ 19) (h40 : f ≠ 40) (h33 : f ≠ 33) (hj : exm U z f j) : FX w z U (up V f j x) := by
  refine ⟨?_, ?_, ?_, fun g i a1 a2 a3 a4 a5 a6 a7 a8 => ?_⟩
  · rw [up_n (Ne.symm h19)]
    exact h.1
  · rw [up_n (Ne.symm h40)]
    exact h.2.1
  · rw [up_n (Ne.symm h33)]
    exact h.2.2.1
  · rw [up_eq, if_neg, h.2.2.2 g i a1 a2 a3 a4 a5 a6 a7 a8]
    rintro ⟨e, e2⟩
    rw [e, e2] at a8
    exact a8 hj
theorem GL_fx (h : FX w s U V) (pq : PQ w U) (qv : QV U) (w0 : 0 ≤ w) (e19 : V 19 w = U 19 w) (e26 : ∀ k, As w U k → k ≠ s → V 26 k = U 26 k) (h1 : U 20 s ≠ 1 ∧ U 20 s ≠ 9 ∧ U 20 s ≠ 2) (h2 : V 20 s ≠ 1 ∧ V 20 s ≠ 9 ∧ V 20 s ≠ 2) (g : GL R A T w v U) : GL R A T w v V := by
  have so : ∀ j, U 20 s ≠ j → V 20 s ≠ j → stL V w (fun k => decide (V 20 k = j)) = stL U w (fun k => decide (U 20 k = j)) := fun j n1 n2 =>
    stL_fx h e19 (fun k hk hn => by rw [h.fs hk (by decide) (by decide) (by decide) (Or.inl hn)]) (fun _ => by rw [decide_eq_false n1, decide_eq_false n2])
  have oo : stL V w (isO V) = stL U w (isO U) := stL_fx h e19 (fun k hk hn => by
    unfold isO
    rw [h.fs (f := 20) hk (by decide) (by decide) (by decide) (Or.inl hn), h.fs (f := 22) hk (by decide) (by decide) (by decide) (Or.inl hn), h.fs (f := 25) hk (by decide) (by decide) (by decide) (Or.inl hn), pO_fx h pq qv w0 (pq.1 k hk).1]) (fun _ => by unfold isO; rw [decide_eq_false h1.2.2, decide_eq_false h2.2.2, Bool.false_and, Bool.false_and, Bool.false_and, Bool.false_and])
  have m26 : ∀ p : Int → Bool, p s = false → (stL U w p).map (V 26) = (stL U w p).map (U 26) := fun p ps => List.map_congr_left (fun k hk => e26 k (stL_As hk) (fun z => by
    have := (List.mem_filter.mp hk).2
    rw [z, ps] at this
    exact absurd this (by decide)))
  obtain ⟨⟨a1, a2, a3⟩, ⟨b1, b2, b3⟩, ⟨c1, c2⟩, ⟨d1, d2, d3⟩, ⟨e1, e2, e3⟩, ⟨g1, g2⟩, gz⟩ := g
  unfold GL
  rw [so 1 h1.1 h2.1, so 9 h1.2.1 h2.2.1, oo, e19, m26 _ (decide_eq_false h1.1), m26 (isO U) (by unfold isO; rw [decide_eq_false h1.2.2, Bool.false_and, Bool.false_and])]
  exact ⟨⟨a1, a2, a3⟩, ⟨b1, b2, b3⟩, ⟨c1, c2⟩, ⟨d1, d2, d3⟩, ⟨e1, e2, e3⟩, ⟨g1, g2⟩, gz⟩
theorem GI_do (g : GI R A T w s p0 v S U) (pq : PQ w U) (qv : QV U) (w0 : 0 ≤ w ∧ w ≤ 1) (n9 : 0 ≤ U 9 w ∧ U 9 w ≤ 12) (n19 : 1 ≤ U 19 w ∧ U 19 w ≤ 120) (e42 : ∀ i, 0 ≤ i → i < S 55 0 → Ab w U (S 56 i)) (hs : s = w * 120 + (U 19 w - 1)) (u20 : U 20 s = 0) (u33 : U 33 s = 0) (hk : k = 0 ∨ k = 8)
    (ka : hK v.1 (A 2 s) = 30) (k5 : hI v.1 (A 2 s) 5 = iI k) (k6 : hR v.1 (A 2 s) 6 = none) (t' : PT v (R 0) (R 1) (R 2) S') (h47 : p0 ≤ S' 47 0) (h55 : S' 55 = S 55) (h56 : S' 56 = S 56) : GI R A T w (-1) p0 v S' (up U 20 s k) := by
  have h : FX w s U (up U 20 s k) := FX_up (FU.refl.fx (Int.le_refl _)) (by decide) (by decide) (by decide) (Or.inl ⟨rfl, Or.inl rfl⟩)
  have hsA : As w U s := ⟨by omega, by omega⟩
  have e : ∀ f, f ≠ 20 → up U 20 s k f = U f := fun f hf => up_n hf
  have v20 : up U 20 s k 20 s = k := up_s
  have e19 : up U 20 s k 19 w = U 19 w := by rw [e 19 (by decide)]
  have g' := g
  obtain ⟨g1, g2, g3, g4, g5, g6, _, ⟨L, ga, gb⟩, gc, gd, ge, gf, gg, gh, gj⟩ := g'
  have n3 := g3.2.2.2
  have o20 : ∀ j, As w U j → j ≠ s → up U 20 s k 20 j = U 20 j := fun j hj hn => h.fs hj (by decide) (by decide) (by decide) (Or.inl hn)
  have lp : ∀ j, As w U j → up U 20 s k 20 j = 5 ∨ up U 20 s k 20 j = 6 → j ≠ s ∧ (U 20 j = 5 ∨ U 20 j = 6) := fun j hj hl => by
    by_cases z : j = s
    · rw [z, v20] at hl
      omega
    · rw [o20 j hj z] at hl
      exact ⟨z, hl⟩
  refine GI_done g h pq qv w0 n9 e19 (by rw [e 40 (by decide)]) e42 hsA t' h47 h55 h56 (GL_fx h pq qv w0.1 e19 (fun j _ _ => by rw [e 26 (by decide)]) (by omega) (by omega) g6) ⟨L, ga, ?_⟩ ?_ (fun j hj hl => ?_) (fun c hc hr => ?_) ?_ ?_
  · have m0 : mPs U w s = [] := by unfold mPs; rw [u20]; rfl
    have m1 : mPs (up U 20 s k) w s = [] := by unfold mPs; rw [v20]; rcases hk with z | z <;> rw [z] <;> rfl
    rw [mPar_fx h pq qv w0 n3 n9 (by omega) e19 hs n19.1 m0, m1, List.append_nil]
    exact gb
  · unfold FS
    rw [v20]
    refine ⟨fun _ => ⟨ka, k5, k6⟩, fun z => by omega, fun z => by omega, fun z => by omega, fun z => by omega, fun z => by omega, fun z => by omega, fun z => by omega, fun z => by omega, fun z => by omega, fun z => by omega⟩
  · obtain ⟨hn, hl'⟩ := lp j hj hl
    obtain ⟨l1, l2, l3, l4, l5⟩ := gf j hj hl'
    refine ⟨l1, l2, l3, l4, ?_⟩
    rw [l5, stL_fx h e19 (p := fun i => decide (U 20 i = 7) && decide (tgt U i = j)) (fun i hi hn => by rw [o20 i hi hn, tgt_fx h pq hi]) (fun _ => by rw [v20, u20, decide_eq_false (by omega), Bool.false_and]; rfl)]
  · rw [e 33 (by decide)] at hr
    have nz : c / 4 ≠ s := fun z => by rw [z, u33] at hr; omega
    obtain ⟨c1, c2, c3⟩ := gg c hc hr
    refine ⟨CF_fx h qv w0 n3 hc hr c1, ?_, fun hp => ?_⟩
    · rw [c2, isS_fx h pq qv w0.1 e19 (by omega) (by omega)]
    · rw [e 34 (by decide)]
      refine c3 (fun z => hp ?_)
      rcases z with z | z
      · exact absurd z nz
      · exact Or.inr z
  · rw [e 33 (by decide)]
    exact gh
  · exact fun i d hi hl hd hq y => gj i d hi (lp i hi hl).2 hd (lp d hd hq).2 y
end GDO
