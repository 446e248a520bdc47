/-! COMPONENT, 57: call: its name *-/
/-- what the name of a call may change -/
def XC (R : Nat → Nat) (a : Nat) (b k : Nat) : Prop := Xr (R 0) (R 2) b k ∨ (b = a ∧ k = 5) ∨ ((b = R 10 ∨ b = R 11) ∧ k = 99)
section CAL
variable {r a : Nat} {h : am_H} {R : Nat → Nat} {A Ah : Nat → Int → Nat} {T Th : Nat → Nat} {w s b0 p0 x p c d : Int} {v v' vh : vT} {S S' Uh U : tSt} {o : Option Nat} {Q : am_O → am_H → Prop}
theorem GI_cal (g : GI R A T w s p0 v S U) (pr : PR w U) (qv : QV U) (w0 : 0 ≤ w ∧ w ≤ 1) (hs : s = w * 120 + (U 19 w - 1)) (n1 : 1 ≤ U 19 w) (u20 : U 20 s = 0) (u33 : U 33 s = 0) (ka : hK v.1 (A 2 s) = 31)
    (f : Fw (XC R (A 2 s)) v v') (t' : PT v' (R 0) (R 1) (R 2) S') (h47 : p0 ≤ S' 47 0) (h55 : S' 55 = S 55) (h56 : S' 56 = S 56) (l10 : vLs v' (R 10) = vLs v (R 10) ++ [some (A 2 s)]) (l11 : ∃ e, vLs v' (R 11) = vLs v (R 11) ++ [some e] ∧ isIg v' e p) : GI R A T w s p0 v' S' (tNr s 1 x p U) := by
  have h : FX w s U (tNr s 1 x p U) := tNr_fx
  have e : ∀ f, f ≠ 20 → f ≠ 25 → f ≠ 26 → tNr s 1 x p U f = U f := fun f h1 h2 h3 => tNr_o h1 h2 h3
  obtain ⟨v20, v25, v26⟩ := tNr_v (s := s) (k := 1) (x := x) (p := p) (U := U)
  have e19 : tNr s 1 x p U 19 w = U 19 w := by rw [e 19 (by decide) (by decide) (by decide)]
  have e22 : tNr s 1 x p U 22 = U 22 := e 22 (by decide) (by decide) (by decide)
  have hsA : As w U s := ⟨by omega, by omega⟩
  have pq := pr.1
  have b19 := QV_b qv (f := 19) (c := 120) rfl rfl rfl w
  have b9 := QV_b qv (f := 9) (c := 12) rfl rfl rfl w
  have g' := g
  obtain ⟨g1, g2, g3, g4, g5, g6, ⟨g7, g8, g9⟩, ⟨L, ga, gb⟩, gc, gd, ge, gf, gg, gh, gj⟩ := g'
  have n3 := g3.2.2.2
  have oS : ∀ f j, 20 ≤ f → f ≤ 30 ∨ f = 33 → f ≠ 24 → As w U j → j ≠ s → tNr s 1 x p U f j = U f j := fun f j h1 h2 h3 hj hn => h.fs hj h1 h2 h3 (Or.inl hn)
  have o20 : ∀ j, As w U j → j ≠ s → tNr s 1 x p U 20 j = U 20 j := fun j hj hn => oS 20 j (by decide) (by decide) (by decide) hj hn
  have lp : ∀ j, As w U j → tNr s 1 x p U 20 j = 5 ∨ tNr s 1 x p U 20 j = 6 → j ≠ s ∧ (U 20 j = 5 ∨ U 20 j = 6) := fun j hj hl => by
    by_cases z : j = s
    · rw [z, v20] at hl
      omega
    · rw [o20 j hj z] at hl
      exact ⟨z, hl⟩
  have k0 := g1.w0.1
  have k2 := g1.w0.2.1
  have k9 := g.k9
  obtain ⟨t8, t9, t10, t11, t12, t13, t14⟩ := g6.2.2.2.2.2.2.1
  obtain ⟨m1, m2, m3, m4, m5, m6, m7, m8, m9, ma, mb⟩ := g6.2.2.2.2.2.2.2.1
  obtain ⟨mc, md9, me, mf, mg, mh, mi, mj, mk, mm⟩ := g6.2.2.2.2.2.2.2.2
  have k10 := g6.2.1.2.1
  have k11 := g6.2.2.1.2.1
  have kq : ∀ c k, XC R (A 2 s) c k → ((hK v.1 c = 2 ∨ hK v.1 c = 3) ∧ k ≠ 99 ∧ (3 ≤ k ∧ k ≤ 6 ∨ 14 ≤ k ∧ k ≤ 16)) ∨ (hK v.1 c = 4 ∧ T c = 3 ∧ k = 99 ∧ (c = R 10 ∨ c = R 11)) ∨ (c = A 2 s ∧ k = 5) := fun c k y => by
    rcases y with (y | y) | y | y
    · exact Or.inl ⟨Or.inl (by rw [y.1]; exact k0), by omega, by omega⟩
    · exact Or.inl ⟨Or.inr (by rw [y.1]; exact k2), by omega, by omega⟩
    · exact Or.inr (Or.inr y)
    · rcases y.1 with q | q
      · exact Or.inr (Or.inl ⟨by rw [q]; exact k10, by rw [q]; exact t10, y.2, y.1⟩)
      · exact Or.inr (Or.inl ⟨by rw [q]; exact k11, by rw [q]; exact t11, y.2, y.1⟩)
  have nf : ∀ c k, hK v.1 c ≠ 2 → hK v.1 c ≠ 3 → hK v.1 c ≠ 4 → hK v.1 c ≠ 31 → ¬ XC R (A 2 s) c k := fun c k h2 h3 h4 h5 y => by
    rcases kq c k y with z | z | z
    · omega
    · omega
    · rw [z.1] at h5
      exact h5 ka
  have xz : XZ v T (A 2 s) (XC R (A 2 s)) := fun c k y _ => by
    rcases kq c k y with z | z | z
    · omega
    · exact Or.inr (Or.inr (Or.inl ⟨z.2.2.1, by omega⟩))
    · exact Or.inr (Or.inr (Or.inr (Or.inr ⟨z.1, by rw [z.1, ka]; decide⟩)))
  have x0 : ∀ k, 7 ≤ k ∧ k ≤ 13 ∨ k = 17 → ¬ XC R (A 2 s) (R 0) k := fun k hk y => by
    rcases kq _ k y with z | z | z
    · omega
    · omega
    · omega
  have nl : ∀ l, hK v.1 l = 4 → l ≠ R 10 → l ≠ R 11 → ¬ XC R (A 2 s) l 99 := fun l kl h1 h2 y => by
    rcases kq _ _ y with z | z | z
    · omega
    · rcases z.2.2.2 with q | q
      · exact h1 q
      · exact h2 q
    · omega
  have so9 : stL (tNr s 1 x p U) w (fun k => decide (tNr s 1 x p U 20 k = 9)) = stL U w (fun k => decide (U 20 k = 9)) ++ [] := by
    rw [List.append_nil]
    exact stL_fx h e19 (fun k hk hn => by rw [o20 k hk hn]) (fun _ => by rw [v20, u20]; rfl)
  have so1 : stL (tNr s 1 x p U) w (fun k => decide (tNr s 1 x p U 20 k = 1)) = stL U w (fun k => decide (U 20 k = 1)) ++ [s] := by
    rw [stL_l (p := fun k => decide (U 20 k = 1)) h e19 n1 hs (fun k hk hn => by rw [o20 k hk hn]) (by rw [u20]; rfl), v20]
    rfl
  have oo : stL (tNr s 1 x p U) w (isO (tNr s 1 x p U)) = stL U w (isO U) ++ [] := by
    rw [List.append_nil]
    refine stL_fx h e19 (fun k hk hn => ?_) (fun _ => by unfold isO; rw [v20, u20]; rfl)
    unfold isO
    rw [o20 k hk hn, oS 25 k (by decide) (by decide) (by decide) hk hn, e22, pO_fx h pq qv w0.1 (pq.1 k hk).1]
  have pn : ∀ j, pnd S U s j → pnd S' (tNr s 1 x p U) s j := fun j y => by
    unfold pnd at y ⊢
    rw [e 42 (by decide) (by decide) (by decide), h55, h56]
    exact y
  have on : ∀ b, opn S b → opn S' b := fun b y => by unfold opn at y ⊢; rw [h55, h56]; exact y
  have ig : ∀ c k, XC R (A 2 s) c k → hK v.1 c ≠ 8 ∧ hK v.1 c ≠ 9 := fun c k y => by
    rcases kq c k y with z | z | z
    · omega
    · omega
    · rw [z.1, ka]; decide
  have keep8 : ∀ b z, isIg v b z → isIg v' b z := fun b z y => by
    obtain ⟨y1, y2⟩ := y
    have lt : b < hN v.1 := by rcases y1 with q | q <;> exact hK_lt q (by decide)
    refine ⟨?_, ?_⟩
    · rw [(f.2.2 b lt).1]
      exact y1
    · rw [(f.ff (k := 0) lt (fun q => by have := ig _ _ q; omega)).1]
      exact y2
  refine GI_mv (s := s) (z := A 2 s) g h pq qv w0 b9 b19.2 e19 AE.refl f xz (Or.inl ⟨rfl, hsA⟩) (fun k y => ?_) (x0 7 (by omega)) (x0 8 (by omega)) (by rw [(f.ff (hK_lt k0 (by decide)) (x0 9 (by omega))).1, h55]; exact g9) t' h47 (TG_fw f g5) ?_ ⟨L, ?_, ?_⟩ (fun j hj hp => ?_) (fun c hc hx => ?_) (fun j hj hl => ?_) (fun c hc hr => ?_) ?_ ?_
  · rcases kq _ k y with z | z | z
    · omega
    · omega
    · omega
  · refine GL_mv g6 AE.refl f e19 k0 g2.2.2.1 k9 (fun k hk => x0 k (by omega)) (nf _ _ (by rw [g2.2.2.1]; decide) (by rw [g2.2.2.1]; decide) (by rw [g2.2.2.1]; decide) (by rw [g2.2.2.1]; decide)) (nl _ g6.1.2.1 m2 m3) [s] [] [] (fun k hk => ?_) so1 so9 oo ?_ ?_ ?_ ?_ ?_ (fun k hk hq => oS 26 k (by decide) (by decide) (by decide) hk (fun z => by rw [z, u20] at hq; omega))
    · simp only [List.append_nil] at hk
      rw [List.mem_singleton.mp hk]
      exact hsA
    · rw [l10]
      rfl
    · rw [(f.cc (hK_lt g6.2.2.2.1.2.1 (by decide)) (nl _ g6.2.2.2.1.2.1 (Ne.symm md9) (Ne.symm mg))).1]
      simp
    · rw [(f.cc (hK_lt g6.2.2.2.2.1.2.1 (by decide)) (nl _ g6.2.2.2.2.1.2.1 (Ne.symm me) (Ne.symm mh))).1]
      simp
    · obtain ⟨e8, y2, y3⟩ := l11
      rw [List.map_cons, List.map_nil, v26]
      exact IL_snoc g6.2.2.1.2 (f.kk k11 (by decide)) (fun b y => keep8 b _ y) keep8 y2 y3
    · rw [List.map_nil, List.append_nil]
      exact IL_fw f (nl _ g6.2.2.2.2.2.1.2.1 (Ne.symm mf) (Ne.symm mi)) ig g6.2.2.2.2.2.1.2
  · exact ML_fw f ga (nl _ k9 m7 m8) (fun c k y hk => by
      rcases kq c k y with z | z | z
      · omega
      · omega
      · omega)
  · have m0 : mPs U w s = [] := by unfold mPs; rw [u20]; rfl
    have m1 : mPs (tNr s 1 x p U) w s = [] := by unfold mPs; rw [v20]; rfl
    have := mPar_px (E := []) h pq qv w0 n3 b9 e19 hsA (by rw [m0, m1]; exact List.Perm.refl _)
    rw [List.append_nil] at this
    exact gb.trans this.symm
  · exact Or.inr ⟨fun q => hp (Or.inl q), fun y => hp (pn j y)⟩
  · refine Or.inr ⟨?_, fun y => hx (on c y)⟩
    unfold Ab at hc ⊢
    rw [e 40 (by decide) (by decide) (by decide)] at hc
    exact hc
  · obtain ⟨hn, hl'⟩ := lp j hj hl
    have lb := gf j hj hl'
    refine LB_keep AE.refl f hj lb (nf _ _ (by rw [lb.1]; decide) (by rw [lb.1]; decide) (by rw [lb.1]; decide) (by rw [lb.1]; decide)) (fun y => ?_) ?_
    · have := lb.2.2.2.1
      rcases kq _ _ y with z | z | z
      · omega
      · omega
      · omega
    · exact stL_fx h e19 (fun k hk hn => by rw [o20 k hk hn, tgt_fx h pq hk]) (fun _ => by rw [v20, u20]; rfl)
  · rw [e 33 (by decide) (by decide) (by decide)] at hr
    obtain ⟨c1, c2, c3⟩ := gg c hc hr
    have q := fun j => f.ff (k := j) (hK_lt c1.1 (by decide)) (nf _ _ (by rw [c1.1]; decide) (by rw [c1.1]; decide) (by rw [c1.1]; decide) (by rw [c1.1]; decide))
    refine ⟨Or.inr hr, ?_, fun hp => ?_⟩
    · rw [(q 4).1, c2, isS_fx h pq qv w0.1 e19 (by omega) (by omega)]
    · rw [(q 3).2.2, e 34 (by decide) (by decide) (by decide)]
      exact c3 (fun y => hp (pn _ y))
  · rw [e 33 (by decide) (by decide) (by decide)]
    exact gh
  · exact fun i d hi hl hd hq y => gj i d hi (lp i hi hl).2 hd (lp d hd hq).2 y
end CAL
