/-! COMPONENT, 34: the invariant goes on while a statement is in hand *-/
section GMV
variable {R : Nat → Nat} {A A' : Nat → Int → Nat} {T T' : Nat → Nat} {w s x x' p0 : Int} {v v' : vT} {S S' U U' : tSt} {X : Nat → Nat → Prop}
theorem A2_inj (gc : ∀ k, As w U k → ES v A U w k) (n19 : U 19 w ≤ 120) {k : Int} (h1 : As w U k) (h2 : As w U s) (e : A 2 k = A 2 s) : k = s := by
  have a1 := (gc k h1).2.1
  have a2 := (gc s h2).2.1
  obtain ⟨p1, p2⟩ := h1
  obtain ⟨p3, p4⟩ := h2
  rw [e, a2, iI_eq (by omega) (by omega) (by omega) (by omega)] at a1
  omega
theorem GI_mv (g : GI R A T w x p0 v S U) (h : FX w s U U') (pq : PQ w U) (qv : QV U) (w0 : 0 ≤ w ∧ w ≤ 1) (n9 : 0 ≤ U 9 w ∧ U 9 w ≤ 12) (n19 : U 19 w ≤ 120) (e19 : U' 19 w = U 19 w)
    (ae : AE w U A A' T T') (f : Fw X v v') {z : Nat} (xz : XZ v T z X) (hz : (z = A 2 s ∧ As w U s) ∨ hN v.1 ≤ z) (x2 : ∀ k, X z k → 5 ≤ k) (x7 : ¬ X (R 0) 7) (x8 : ¬ X (R 0) 8) (n55 : hI v'.1 (R 0) 9 = iI (S' 55 0))
    (t' : PT v' (R 0) (R 1) (R 2) S') (h47 : p0 ≤ S' 47 0) (tg : TG v' T' ∧ TZ v' T') (gl : GL R A' T' w v' U') (gm : ∃ L, ML v' (R 9) (insA [] L) ∧ L.Perm (mPar U' w))
    (fs : ∀ k, As w U k → ¬ pnd S' U' x' k → FS v' A' T' U' w (fun _ => none) (fun _ => []) k ∨ (k ≠ s ∧ ¬ pnd S U x k)) (fb : ∀ b, Ab w U' b → ¬ opn S' b → FB v' A' T' U' w b ∨ (Ab w U b ∧ ¬ opn S b))
    (lb : ∀ k, As w U k → U' 20 k = 5 ∨ U' 20 k = 6 → LB v' A' T' U' w k)
    (cf : ∀ c, As w U (c / 4) → c % 4 < U' 33 (c / 4) → (CF v' A' T' U' w c ∨ c % 4 < U 33 (c / 4)) ∧ hI v'.1 (A' 4 c) 4 = bI (isS U' w c = true) ∧ (¬ pnd S' U' x' (c / 4) → hR v'.1 (A' 4 c) 3 = some (A' 3 (U' 34 c))))
    (i4 : ∀ c d, As w U (c / 4) → c % 4 < U' 33 (c / 4) → As w U (d / 4) → d % 4 < U' 33 (d / 4) → A' 4 c = A' 4 d → c = d)
    (i5 : ∀ k d, As w U k → U' 20 k = 5 ∨ U' 20 k = 6 → As w U d → U' 20 d = 5 ∨ U' 20 d = 6 → A' 5 k = A' 5 d → k = d) : GI R A' T' w x' p0 v' S' U' := by
  obtain ⟨g1, g2, g3, g4, g5, g6, ⟨g7, g8, g9⟩, _, gc, gd, ge, gf, gg, gh, gj⟩ := g
  have n3 := g3.2.2.2
  have k0 := g1.w0.1
  have et := ae.2.2.2.2.2
  have tgv := g5.1
  have u3 : U' 3 w = U 3 w := h.fk (by decide) (by omega)
  have u9 : U' 9 w = U 9 w := h.fk (by decide) (by omega)
  have as : ∀ k, As w U' k → As w U k := fun k hk => by unfold As at hk ⊢; rw [e19] at hk; exact hk
  refine ⟨t', ?_, ?_, h47, tg, gl, ⟨?_, ?_, n55⟩, gm, fun k hk => ?_, fun k hk hp => ?_, fun b hb ho => ?_, fun k hk hl => lb k (as k hk) hl, fun c hc hr => ?_, fun c d hc hr hd hq e => i4 c d (as _ hc) hr (as _ hd) hq e, fun k d hk hl hd hq e => i5 k d (as _ hk) hl (as _ hd) hq e⟩
  · exact RUn_fw f g2 x7 (fun k _ => cc_z xz g5.1 g2.2.2.1 (by decide) (by decide) (by decide) (fun q => absurd q (by decide)) (by decide) (Or.inr (by decide)))
  · obtain ⟨q1, q2, q3, q4⟩ := KMp_fw f g3 (cc_z xz g5.1 g3.2.2.1 (by decide) (by decide) (by decide) (fun q => absurd q (by decide)) (by decide) (Or.inr (by decide)))
    refine ⟨fun T t1 t2 p hp => ?_, fun k h0 h1 => ?_, q3, by rw [u3]; exact q4⟩
    · rw [ae.2.2.2.1, kO_fx h w0 n3]
      exact q1 T t1 t2 p hp
    · rw [ae.2.2.2.1]
      rw [u3] at h1
      exact q2 k h0 h1
  · rw [(f.ff (hK_lt k0 (by decide)) x8).2.2, ae.2.2.2.2.1, u9]
    exact g7
  · rw [ae.2.2.2.2.1, u9]
    exact f.kk g8 (by decide)
  · have hk' := as k hk
    obtain ⟨e1, e2, e3, e4⟩ := gc k hk'
    have q := fun j (hj : j ≤ 2) => f.ff (a := A 2 k) (k := j) (hK_lt rfl (by omega)) (by
      by_cases e : A 2 k = z
      · rw [e]
        intro y
        have := x2 j y
        omega
      · exact cc_z xz g5.1 rfl (by omega) (by omega) (by omega) (fun q => by omega) (by omega) (Or.inl e))
    have kk : hK v'.1 (A 2 k) = hK v.1 (A 2 k) := f.kk rfl (by omega)
    unfold ES
    rw [(ae.1 k hk').1, ae.2.2.2.2.1, h.fs (f := 21) hk' (by decide) (by decide) (by decide) (Or.inr (Or.inl rfl)), h.fs (f := 23) hk' (by decide) (by decide) (by decide) (Or.inr (Or.inr (Or.inr rfl))), kk, (q 0 (by decide)).1, (q 1 (by decide)).1, (q 2 (by decide)).2.2]
    exact ⟨e1, e2, e3, e4⟩
  · have hk' := as k hk
    rcases fs k hk' hp with y | ⟨n1, n2⟩
    · exact y
    · refine FS_fx h pq qv w0 n3 hk' n1 (FS_ae ae pq qv w0.1 hk' (FS_fz f xz tgv ?_ (gd k hk' n2)))
      rcases hz with ⟨z1, z2⟩ | z1
      · rw [z1]
        exact fun e => n1 (A2_inj gc n19 hk' z2 e)
      · have := (gc k hk').1
        have := hK_lt (a := A 2 k) (h := v.1) rfl (by omega)
        omega
  · rcases fb b hb ho with y | ⟨z1, z2⟩
    · exact y
    · obtain ⟨y1, y2, l, y3, y4, y5, y6⟩ := FB_ae ae z1 (FB_fz f xz tgv (ge b z1 z2))
      refine ⟨y1, by rw [h.fb z1 (by decide) (by decide)]; exact y2, l, y3, y4, y5, ?_⟩
      rw [y6]
      congr 1
      unfold stL
      rw [e19]
      apply List.filter_congr
      intro k hk
      obtain ⟨i, hi, e2⟩ := List.mem_map.mp hk
      have hi' := List.mem_range.mp hi
      have hk' : As w U k := ⟨by omega, by omega⟩
      rw [h.fs hk' (by decide) (by decide) (by decide) (Or.inr (Or.inr (Or.inl rfl)))]
  · have hc' := as _ hc
    obtain ⟨c1, c2, c3⟩ := cf c hc' hr
    refine ⟨?_, c2, c3⟩
    rcases c1 with c1 | c1
    · exact c1
    · exact CF_fx h qv w0 n3 hc' c1 (CF_ae ae hc' c1 (CF_fz f xz tgv (gg c hc' c1).1))
theorem LB_keep {k : Int} (ae : AE w U A A' T T') (f : Fw X v v') (hk : As w U k) (l : LB v A T U w k) (x7 : ¬ X (A 2 k) 7) (x5 : ¬ X (A 5 k) 99)
    (est : stL U' w (fun j => decide (U' 20 j = 7) && decide (tgt U' j = k)) = stL U w (fun j => decide (U 20 j = 7) && decide (tgt U j = k))) : LB v' A' T' U' w k := by
  obtain ⟨l1, l2, l3, l4, l5⟩ := l
  unfold LB
  rw [(ae.1 k hk).1, (ae.1 k hk).2, est]
  refine ⟨f.kk l1 (by decide), by rw [(f.ff (hK_lt l1 (by decide)) x7).2.2]; exact l2, f.kk l3 (by decide), by rw [ae.2.2.2.2.2 _ (by rw [l4]; decide) (by rw [l4]; decide)]; exact l4, ?_⟩
  rw [(f.cc (hK_lt l3 (by decide)) x5).1, l5]
  exact List.map_congr_left (fun k hk => by rw [(ae.1 k (stL_As hk)).1])
theorem IL_snoc {l e : Nat} {N : List Int} {y : Int} (x : IL v l N) (k : hK v'.1 l = 4) (old : ∀ b, isIg v b y → isIg v' b y) (keep : ∀ b z, isIg v b z → isIg v' b z) (ls : vLs v' l = vLs v l ++ [some e]) (he : isIg v' e y) : IL v' l (N ++ [y]) := by
  obtain ⟨x1, x2, x3⟩ := x
  refine ⟨k, by rw [ls, List.length_append, List.length_append, x2]; rfl, fun i hi => ?_⟩
  rw [ls]
  rw [List.length_append, List.length_singleton] at hi
  by_cases q : i < N.length
  · obtain ⟨b, b1, b2⟩ := x3 i q
    refine ⟨b, ?_, ?_⟩
    · rw [List.getD_eq_getElem?_getD, List.getElem?_append_left (by omega), ← List.getD_eq_getElem?_getD]
      exact b1
    · rw [List.getD_eq_getElem?_getD, List.getElem?_append_left (by omega), ← List.getD_eq_getElem?_getD]
      exact keep b _ b2
  · have q2 : i = N.length := by omega
    refine ⟨e, ?_, ?_⟩
    · rw [List.getD_eq_getElem?_getD, List.getElem?_append_right (by omega), x2, q2, Nat.sub_self]
      rfl
    · rw [List.getD_eq_getElem?_getD, List.getElem?_append_right (by omega), q2, Nat.sub_self]
      exact he
/-- the reader's lists; E1, E9, E2: what is put behind the calls, the tries, the throws of parameters from outside -/
theorem GL_mv (g : GL R A T w v U) (ae : AE w U A A' T T') (f : Fw X v v') (e19 : U' 19 w = U 19 w) (k0 : hK v.1 (R 0) = 2) (k3 : hK v.1 (R 3) = 5) (k9 : hK v.1 (R 9) = 4)
    (x0 : ∀ k, k = 10 ∨ k = 11 ∨ k = 12 ∨ k = 13 ∨ k = 17 → ¬ X (R 0) k) (x3 : ¬ X (R 3) 4) (x8 : ¬ X (R 8) 99) (E1 E9 E2 : List Int) (hE : ∀ k, k ∈ E1 ++ (E9 ++ E2) → As w U k)
    (s1 : stL U' w (fun s => decide (U' 20 s = 1)) = stL U w (fun s => decide (U 20 s = 1)) ++ E1) (s9 : stL U' w (fun s => decide (U' 20 s = 9)) = stL U w (fun s => decide (U 20 s = 9)) ++ E9) (s2 : stL U' w (isO U') = stL U w (isO U) ++ E2)
    (l10 : vLs v' (R 10) = vLs v (R 10) ++ E1.map (fun k => some (A 2 k))) (l12 : vLs v' (R 12) = vLs v (R 12) ++ E9.map (fun k => some (A 2 k))) (l13 : vLs v' (R 13) = vLs v (R 13) ++ E2.map (fun k => some (A 2 k)))
    (l11 : IL v' (R 11) ((stL U w (fun s => decide (U 20 s = 1))).map (U 26) ++ E1.map (U' 26))) (l14 : IL v' (R 14) ((stL U w (isO U)).map (U 26) ++ E2.map (U' 26)))
    (e26 : ∀ k, As w U k → U 20 k = 1 ∨ U 20 k = 2 → U' 26 k = U 26 k) : GL R A' T' w v' U' := by
  obtain ⟨⟨a1, a2, a3⟩, ⟨b1, b2, b3⟩, ⟨c1, c2⟩, ⟨d1, d2, d3⟩, ⟨e1, e2, e3⟩, ⟨g1, g2⟩, ⟨t1, t2, t3, t4, t5, t6, t7⟩, gz⟩ := g
  have r0 : ∀ k, k = 10 ∨ k = 11 ∨ k = 12 ∨ k = 13 ∨ k = 17 → hR v'.1 (R 0) k = hR v.1 (R 0) k := fun k hk => (f.ff (hK_lt k0 (by decide)) (x0 k hk)).2.2
  have r3 : hR v'.1 (R 3) 4 = hR v.1 (R 3) 4 := (f.ff (hK_lt k3 (by decide)) x3).2.2
  have tt : ∀ {l : Nat}, hK v.1 l = 4 → T l = 3 → T' l = 3 := fun _ t => by rw [ae.2.2.2.2.2 _ (by rw [t]; decide) (by rw [t]; decide)]; exact t
  have ma : ∀ L : List Int, (∀ k, k ∈ L → As w U k) → L.map (fun k => some (A' 2 k)) = L.map (fun k => some (A 2 k)) := fun L hL => List.map_congr_left (fun k hk => by rw [(ae.1 k (hL k hk)).1])
  have i1 : ∀ k, k ∈ stL U w (fun s => decide (U 20 s = 1)) ++ E1 → As w U k := fun k hk => by
    rcases List.mem_append.mp hk with y | y
    · exact stL_As y
    · exact hE k (List.mem_append.mpr (Or.inl y))
  have i9 : ∀ k, k ∈ stL U w (fun s => decide (U 20 s = 9)) ++ E9 → As w U k := fun k hk => by
    rcases List.mem_append.mp hk with y | y
    · exact stL_As y
    · exact hE k (List.mem_append.mpr (Or.inr (List.mem_append.mpr (Or.inl y))))
  have i2 : ∀ k, k ∈ stL U w (isO U) ++ E2 → As w U k := fun k hk => by
    rcases List.mem_append.mp hk with y | y
    · exact stL_As y
    · exact hE k (List.mem_append.mpr (Or.inr (List.mem_append.mpr (Or.inr y))))
  unfold GL
  rw [s1, s9, s2, ma _ i1, ma _ i9, ma _ i2, List.map_append, List.map_append, List.map_append, List.map_append, List.map_append, e19]
  refine ⟨⟨by rw [r3]; exact a1, f.kk a2 (by decide), ?_⟩, ⟨by rw [r0 10 (by decide)]; exact b1, f.kk b2 (by decide), by rw [l10, b3]⟩, ⟨by rw [r0 11 (by decide)]; exact c1, ?_⟩, ⟨by rw [r0 12 (by decide)]; exact d1, f.kk d2 (by decide), by rw [l12, d3]⟩, ⟨by rw [r0 13 (by decide)]; exact e1, f.kk e2 (by decide), by rw [l13, e3]⟩, ⟨by rw [r0 17 (by decide)]; exact g1, ?_⟩, ⟨tt a2 t1, tt k9 t2, tt b2 t3, tt c2.1 t4, tt d2 t5, tt e2 t6, tt g2.1 t7⟩, gz⟩
  · rw [(f.cc (hK_lt a2 (by decide)) x8).1, a3]
    exact rowL_congr (fun k h0 h1 => ((ae.1 _ ⟨by omega, by omega⟩).1).symm)
  · rw [List.map_congr_left (g := U 26) (fun k hk => e26 k (stL_As hk) (Or.inl (by simpa using (List.mem_filter.mp hk).2)))]
    exact l11
  · rw [List.map_congr_left (l := stL U w (isO U)) (g := U 26) (fun k hk => e26 k (stL_As hk) (Or.inr (by
      have := (List.mem_filter.mp hk).2
      unfold isO at this
      simp only [Bool.and_eq_true, decide_eq_true_eq] at this
      exact this.1.1)))]
    exact l14
end GMV
