/-! COMPONENT, 26: the invariant behind the entry of a statement *-/
section EN3
variable {w x s b c k p0 : Int} {S U : tSt} {v v' : vT} {A : Nat → Int → Nat} {T T' : Nat → Nat} {R : Nat → Nat} {a l5 : Nat}
theorem map_Aex {L : List Int} (hL : ∀ k, k ∈ L → k ≠ s) : L.map (fun k => some (Aex A s a l5 2 k)) = L.map (fun k => some (A 2 k)) := List.map_congr_left (fun k hk => by rw [Aex_o (Or.inl (hL k hk))])
theorem stL_e {p p' : Int → Bool} (n19 : 0 ≤ U 19 w) (hs : s = w * 120 + U 19 w) (e : ∀ k, As w U k → p' k = p k) (es : p' s = false) : stL (tE0 w s b S U) w p' = stL U w p := by
  rw [stL_s n19 tE0_v.1 e, ← hs, es]
  simp
theorem GL_enter (g : GL R A T w v U) (pq : PQ w U) (qv : QV U) (w0 : 0 ≤ w ∧ w ≤ 1) (n19 : 0 ≤ U 19 w ∧ U 19 w < 120) (hs : s = w * 120 + U 19 w) (k0 : hK v.1 (R 0) = 2) (k3 : hK v.1 (R 3) = 5)
    (f : Fw (fun c k => c = R 8 ∧ k = 99) v v') (ls : vLs v' (R 8) = vLs v (R 8) ++ [some a]) (ht : ∀ a, a < hN v.1 → T' a = T a) (k9 : hK v.1 (R 9) = 4) : GL R (Aex A s a l5) T' w v' (tE0 w s b S U) := by
  have fu : FU w U (tE0 w s b S U) := tE0_fu hs
  obtain ⟨v19, v20, v21, v22, v23, v33, v30⟩ := tE0_v (w := w) (s := s) (b := b) (S := S) (U := U)
  have u26 : tE0 w s b S U 26 = U 26 := tE0_o (by decide)
  have ns : ∀ k, As w U k → k ≠ s := fun k hk z => by have := hk.2; omega
  have nL : ∀ p, ∀ k, k ∈ stL U w p → k ≠ s := fun p k hk => ns k (stL_As hk)
  have so : ∀ j, j ≠ 0 → stL (tE0 w s b S U) w (fun k => decide (tE0 w s b S U 20 k = j)) = stL U w (fun k => decide (U 20 k = j)) := fun j hj =>
    stL_e n19.1 hs (fun k hk => by rw [fu.fs hk (by decide) (by decide) (by decide)]) (by rw [v20]; exact decide_eq_false (fun z => hj z.symm))
  have oo : stL (tE0 w s b S U) w (isO (tE0 w s b S U)) = stL U w (isO U) := stL_e n19.1 hs (fun k hk => by
    unfold isO
    rw [fu.fs (f := 20) hk (by decide) (by decide) (by decide), fu.fs (f := 22) hk (by decide) (by decide) (by decide), fu.fs (f := 25) hk (by decide) (by decide) (by decide), pO_fu fu pq qv w0.1 (pq.1 k hk).1]) (by unfold isO; rw [v20]; rfl)
  obtain ⟨⟨a1, a2, a3⟩, ⟨b1, b2, b3⟩, ⟨c1, c2⟩, ⟨d1, d2, d3⟩, ⟨e1, e2, e3⟩, ⟨g1, g2⟩, ⟨t1, t2, t3, t4, t5, t6, t7⟩, ⟨m1, m2, m3, m4, m5, m6, m7⟩, gz⟩ := g
  have r3 : hR v'.1 (R 3) 4 = hR v.1 (R 3) 4 := (f.ff (hK_lt k3 (by decide)) (fun z => absurd z.2 (by decide))).2.2
  have r0 : ∀ k, k ≠ 99 → hR v'.1 (R 0) k = hR v.1 (R 0) k := fun k hk => (f.ff (hK_lt k0 (by decide)) (fun z => hk z.2)).2.2
  have lo : ∀ l, hK v.1 l = 4 → R 8 ≠ l → vLs v' l = vLs v l := fun l hl hn => (f.cc (hK_lt hl (by decide)) (fun z => hn z.1.symm)).1
  have il : ∀ l N, R 8 ≠ l → IL v l N → IL v' l N := fun l N hn y => IL_fw f (fun z => hn z.1.symm) (fun c k z => by rw [z.1, a2]; decide) y
  have tt : ∀ {l : Nat}, hK v.1 l = 4 → T l = 3 → T' l = 3 := fun k t => by rw [ht _ (hK_lt k (by decide))]; exact t
  refine ⟨⟨by rw [r3]; exact a1, f.kk a2 (by decide), ?_⟩, ⟨by rw [r0 10 (by decide)]; exact b1, f.kk b2 (by decide), ?_⟩, ⟨by rw [r0 11 (by decide)]; exact c1, ?_⟩, ⟨by rw [r0 12 (by decide)]; exact d1, f.kk d2 (by decide), ?_⟩, ⟨by rw [r0 13 (by decide)]; exact e1, f.kk e2 (by decide), ?_⟩, ⟨by rw [r0 17 (by decide)]; exact g1, ?_⟩, ⟨tt a2 t1, tt k9 t2, tt b2 t3, tt c2.1 t4, tt d2 t5, tt e2 t6, tt g2.1 t7⟩, ⟨m1, m2, m3, m4, m5, m6, m7⟩, gz⟩
  · rw [ls, a3, v19, rowL_snoc n19.1, ← hs, Aex_2]
    congr 1
    exact rowL_congr (fun k h0 h1 => (Aex_o (Or.inl (by omega))).symm)
  · rw [lo _ b2 m2, b3, so 1 (by decide), map_Aex (nL _)]
  · rw [so 1 (by decide), u26]
    exact il _ _ m3 c2
  · rw [lo _ d2 m4, d3, so 9 (by decide), map_Aex (nL _)]
  · rw [lo _ e2 m5, e3, oo, map_Aex (nL _)]
  · rw [oo, u26]
    exact il _ _ m6 g2
theorem GI_enter (g : GI R A T w x p0 v S U) (hx : ¬ As w U x) (pq : PQ w U) (qv : QV U) (w0 : 0 ≤ w ∧ w ≤ 1) (n19 : 0 ≤ U 19 w ∧ U 19 w < 120) (n9 : 0 ≤ U 9 w ∧ U 9 w ≤ 12) (hs : s = w * 120 + U 19 w) (ob : opn S b)
    (t' : PT v' (R 0) (R 1) (R 2) S) (f : Fw (fun c k => c = R 8 ∧ k = 99) v v') (ls : vLs v' (R 8) = vLs v (R 8) ++ [some a]) (ha : 30 ≤ hK v'.1 a ∧ hK v'.1 a ≤ 38) (a0 : hI v'.1 a 0 = iI (U 19 w)) (a1 : hI v'.1 a 1 = iI (S 49 0)) (a2 : hR v'.1 a 2 = some (A 1 (U 9 w - 1)))
    (ht : ∀ a, a < hN v.1 → T' a = T a) (tg : TG v' T' ∧ TZ v' T') : GI R (Aex A s a l5) T' w s p0 v' S (tE0 w s b S U) := by
  obtain ⟨g1, g2, g3, g4, g5, g6, ⟨g7, g8, g9⟩, ⟨L, ga, gb⟩, gc, gd, ge, gf, gg, gh, gj⟩ := g
  have fu : FU w U (tE0 w s b S U) := tE0_fu hs
  obtain ⟨v19, v20, v21, v22, v23, v33, v30⟩ := tE0_v (w := w) (s := s) (b := b) (S := S) (U := U)
  have n3 := g3.2.2.2
  have htn : ∀ a, T a ≠ 0 → T a ≠ 4 → T' a = T a := fun a h0 _ => ht a (Nat.lt_of_not_le (fun z => h0 (g5.2 a z)))
  have ae := Aex_ae (A := A) (T := T) (a := a) (l5 := l5) hs htn
  have as := fun k => As_e (U := U) (k := k) n19.1 v19
  have kl : hK v.1 (R 8) = 4 := g6.1.2.1
  have t8 : T (R 8) = 3 := g6.2.2.2.2.2.2.1.1
  have k9 : hK v.1 (R 9) = 4 := ga.1.choose_spec.1.1
  have n89 : R 8 ≠ R 9 := g6.2.2.2.2.2.2.2.1.1
  have xg : XG v T' (fun c k => c = R 8 ∧ k = 99) := fun c k z => Or.inr (Or.inr (Or.inl ⟨z.2, by rw [z.1, ht _ (hK_lt kl (by decide)), t8]; decide⟩))
  have tgv : TG v T' := fun c h0 h1 h2 => by rw [ht _ (hK_lt rfl h0)]; exact g5.1 c h0 h1 h2
  have u42 : tE0 w s b S U 42 = U 42 := tE0_o (by decide)
  have u40 : tE0 w s b S U 40 = U 40 := tE0_o (by decide)
  have u9 : tE0 w s b S U 9 = U 9 := tE0_o (by decide)
  have u3 : tE0 w s b S U 3 = U 3 := tE0_o (by decide)
  have u34 : tE0 w s b S U 34 = U 34 := tE0_o (by decide)
  have u44 : tE0 w s b S U 44 = U 44 := tE0_o (by decide)
  have ns : ∀ k, As w U k → k ≠ s := fun k hk z => by have := hk.2; omega
  have pn : ∀ k, As w U k → ¬ pnd S (tE0 w s b S U) s k → ¬ pnd S U x k := fun k hk h z => by
    refine h ?_
    unfold pnd at z ⊢
    rw [u42]
    rcases z with z | z
    · rw [z] at hk
      exact absurd hk hx
    · exact Or.inr z
  have reg : ∀ c, As w (tE0 w s b S U) (c / 4) → c % 4 < tE0 w s b S U 33 (c / 4) → As w U (c / 4) ∧ c % 4 < U 33 (c / 4) := fun c hc hr => by
    rcases (as _).mp hc with h | h
    · rw [fu.fs h (by decide) (by decide) (by decide)] at hr
      exact ⟨h, hr⟩
    · rw [h, ← hs, v33] at hr
      omega
  have lpo : ∀ k, As w (tE0 w s b S U) k → tE0 w s b S U 20 k = 5 ∨ tE0 w s b S U 20 k = 6 → As w U k ∧ (U 20 k = 5 ∨ U 20 k = 6) := fun k hk hr => by
    rcases (as _).mp hk with h | h
    · rw [fu.fs h (by decide) (by decide) (by decide)] at hr
      exact ⟨h, hr⟩
    · rw [h, ← hs, v20] at hr
      omega
  refine ⟨t', ?_, ?_, g4, tg, GL_enter g6 pq qv w0 n19 hs g1.w0.1 g2.2.2.1 f ls ht k9, ⟨?_, ?_, ?_⟩, ⟨L, ?_, ?_⟩, fun k hk => ?_, fun k hk hp => ?_, fun d hd ho => ?_, fun k hk hl => ?_, fun c hc hr => ?_, fun c d hc hr hd hq e => ?_, fun k d hk hl hd hq e => ?_⟩
  · exact RUn_fw f g2 (fun z => absurd z.2 (by decide)) (fun k hk z => by have := z.2; omega)
  · obtain ⟨q1, q2, q3, q4⟩ := KMp_fw f g3 (fun z => by have := g3.2.2.1; rw [z.1, kl] at this; exact absurd this (by decide))
    refine ⟨fun T t1 t2 p hp => ?_, fun k h0 h1 => ?_, q3, by rw [u3]; exact q4⟩
    · rw [ae.2.2.2.1, kO_fu fu w0 n3]
      exact q1 T t1 t2 p hp
    · rw [ae.2.2.2.1]
      rw [u3] at h1
      exact q2 k h0 h1
  · rw [(f.ff (hK_lt g1.w0.1 (by decide)) (fun z => absurd z.2 (by decide))).2.2, ae.2.2.2.2.1, u9]
    exact g7
  · rw [ae.2.2.2.2.1, u9]
    exact f.kk g8 (by decide)
  · rw [(f.ff (hK_lt g1.w0.1 (by decide)) (fun z => absurd z.2 (by decide))).1]
    exact g9
  · exact ML_fw f ga (fun z => n89 z.1.symm) (fun c k z hk => by have := z.2; omega)
  · rw [mPar_e fu pq qv w0 n3 n9 n19 v19, ← hs]
    have : mPs (tE0 w s b S U) w s = [] := by
      unfold mPs
      rw [v20]
      rfl
    rw [this, List.append_nil]
    exact gb
  · unfold ES
    rcases (as _).mp hk with h | h
    · obtain ⟨e1, e2, e3, e4⟩ := gc k h
      have q := fun j (hj : j ≠ 99) => f.ff (a := A 2 k) (k := j) (hK_lt rfl (by omega)) (fun z => hj z.2)
      have kk : hK v'.1 (A 2 k) = hK v.1 (A 2 k) := f.kk rfl (by omega)
      rw [Aex_o (Or.inl (ns k h)), ae.2.2.2.2.1, fu.fs (f := 21) h (by decide) (by decide) (by decide), fu.fs (f := 23) h (by decide) (by decide) (by decide), kk, (q 0 (by decide)).1, (q 1 (by decide)).1, (q 2 (by decide)).2.2]
      exact ⟨e1, e2, e3, e4⟩
    · rw [← hs] at h
      rw [h, Aex_2, ae.2.2.2.2.1, v21, v23]
      exact ⟨ha, by rw [a0]; congr 1; omega, a1, a2⟩
  · rcases (as _).mp hk with h | h
    · exact FS_fu fu pq qv w0 n3 h (FS_fw f xg tgv (FS_ae ae pq qv w0.1 h (gd k h (pn k h hp))))
    · exact absurd (Or.inl (by rw [h, hs])) hp
  · have hd' : Ab w U d := by unfold Ab at hd ⊢; rw [u40] at hd; exact hd
    have nd : d ≠ b := fun z => ho (by rw [z]; exact ob)
    obtain ⟨y1, y2, l, y3, y4, y5, y6⟩ := FB_fw f xg tgv (FB_ae ae hd' (ge d hd' ho))
    refine ⟨y1, by rw [u44]; exact y2, l, y3, y4, y5, ?_⟩
    rw [y6, stL_e n19.1 hs (p := fun s => decide (U 22 s = d)) (fun k hk => by rw [fu.fs hk (by decide) (by decide) (by decide)]) (by rw [v22]; exact decide_eq_false (fun z => nd z.symm))]
  · obtain ⟨h, hl'⟩ := lpo k hk hl
    obtain ⟨l1, l2, l3, l4, l6⟩ := LB_ae ae h (gf k h hl')
    have n8 : Aex A s a l5 5 k ≠ R 8 := fun z => by
      rw [z, ht _ (hK_lt kl (by decide)), t8] at l4
      exact absurd l4 (by decide)
    refine ⟨f.kk l1 (by decide), by rw [(f.ff (hK_lt l1 (by decide)) (fun z => absurd z.2 (by decide))).2.2]; exact l2, f.kk l3 (by decide), l4, ?_⟩
    rw [(f.cc (hK_lt l3 (by decide)) (fun z => n8 z.1)).1, l6, stL_e n19.1 hs (p := fun j => decide (U 20 j = 7) && decide (tgt U j = k)) (fun j hj => by rw [fu.fs hj (by decide) (by decide) (by decide), tgt_fu fu pq hj]) (by rw [v20]; rfl)]
  · obtain ⟨h, hr'⟩ := reg c hc hr
    obtain ⟨c1, c2, c3⟩ := gg c h hr'
    have q := fun j (hj : j ≠ 99) => f.ff (k := j) (hK_lt c1.1 (by decide)) (fun z => hj z.2)
    refine ⟨CF_fu fu qv w0 n3 h (CF_fw f xg tgv (CF_ae ae h hr' c1)), ?_, fun hp => ?_⟩
    · rw [ae.2.2.1 c h hr', (q 4 (by decide)).1, c2, isS_e fu pq qv w0.1 n19 v19, ← hs, v20]
      congr 1
      rw [decide_eq_false (by decide), Bool.false_and, Bool.or_false]
    · rw [ae.2.2.1 c h hr', (q 3 (by decide)).2.2, u34]
      have := c3 (pn _ h hp)
      rw [this, Aex_o (Or.inr (by decide))]
  · obtain ⟨h, hr'⟩ := reg c hc hr
    obtain ⟨h2, hq'⟩ := reg d hd hq
    rw [ae.2.2.1 c h hr', ae.2.2.1 d h2 hq'] at e
    exact gh c d h hr' h2 hq' e
  · obtain ⟨h, hl'⟩ := lpo k hk hl
    obtain ⟨h2, hq'⟩ := lpo d hd hq
    rw [(ae.1 k h).2, (ae.1 d h2).2] at e
    exact gj k d h hl' h2 hq' e
end EN3
