/-! COMPONENT, 49: break *-/
section BRK
variable {r a bt : Nat} {h : am_H} {R : Nat → Nat} {A Ah : Nat → Int → Nat} {T Th : Nat → Nat} {w s p0 tg : Int} {v v' vh : vT} {S S' Uh U U' : tSt} {o : Option Nat} {Q : am_O → am_H → Prop} {l2 l4 l5 l6 l7 l8 l9 l10 l11 l12 : Option am_V}
/-- the last statement comes into a list -/
theorem stL_l (h : FX w s U U') (e19 : U' 19 w = U 19 w) (n1 : 1 ≤ U 19 w) (hs : s = w * 120 + (U 19 w - 1)) {p p' : Int → Bool} (hp : ∀ k, As w U k → k ≠ s → p' k = p k) (ps : p s = false) : stL U' w p' = stL U w p ++ (if p' s = true then [s] else []) := by
  unfold stL
  rw [e19, show (U 19 w).toNat = (U 19 w - 1).toNat + 1 by omega, List.range_succ, List.map_append, List.filter_append, List.filter_append]
  have e : List.map (fun (i : Nat) => w * 120 + (i : Int)) [(U 19 w - 1).toNat] = [s] := by
    rw [List.map_cons, List.map_nil]
    congr 1
    omega
  rw [e, List.filter_cons, List.filter_cons, ps, List.filter_nil, List.filter_nil]
  have f : List.filter p' ((List.range (U 19 w - 1).toNat).map (fun (i : Nat) => w * 120 + (i : Int))) = List.filter p ((List.range (U 19 w - 1).toNat).map (fun (i : Nat) => w * 120 + (i : Int))) := by
    apply List.filter_congr
    intro k hk
    obtain ⟨i, hi, e2⟩ := List.mem_map.mp hk
    have hi' := List.mem_range.mp hi
    exact hp k ⟨by omega, by omega⟩ (by omega)
  rw [f]
  simp
theorem tTg_lp (x : CH S U) (hP : PI w S U) (pr : PR w U) : ∀ (d i : Nat), (i : Int) < S 55 0 → tTg U d (S 56 i) = -1 ∨ ((U 20 (tTg U d (S 56 i)) = 5 ∨ U 20 (tTg U d (S 56 i)) = 6) ∧ As w U (tTg U d (S 56 i))) := by
  intro d
  induction d with
  | zero => intro i _; exact Or.inl rfl
  | succ d ih =>
    intro i hi
    rw [tTg]
    cases i with
    | zero =>
      have e : U 41 (S 56 ((0 : Nat) : Int)) = 0 := x.1
      rw [if_pos (Or.inl e)]
      exact Or.inl rfl
    | succ i =>
      obtain ⟨e1, e2, e3⟩ := x.2 ((i + 1 : Nat) : Int) (by omega) hi
      obtain ⟨p1, _⟩ := pr.1.2.1 _ (hP.ab ((i + 1 : Nat) : Int) (by omega) hi)
      rw [e1, show ((i + 1 : Nat) : Int) - 1 = (i : Int) by omega]
      split
      · exact Or.inl rfl
      · split
        · next q =>
          refine Or.inr ⟨e3 q, ?_⟩
          rcases p1 with ⟨q1, _⟩ | ⟨_, q2, _⟩
          · exact absurd q1 e2
          · exact q2
        · exact ih i (by omega)
theorem GI_brk (g : GI R A T w s p0 v S U) (pr : PR w U) (qv : QV U) (w0 : 0 ≤ w ∧ w ≤ 1) (hs : s = w * 120 + (U 19 w - 1)) (n1 : 1 ≤ U 19 w) (u20 : U 20 s = 0) (u33 : U 33 s = 0) (ka : hK v.1 (A 2 s) = 35) (tb : T bt = 4) (kb : hK v.1 bt = 4) (etg : tgt U s = tg) (ltg : tg = -1 ∨ ((U 20 tg = 5 ∨ U 20 tg = 6) ∧ As w U tg))
    (f : Fw (fun c k => Xl (A 2 s) bt c k ∨ (tg ≠ -1 ∧ c = A 5 tg ∧ k = 99)) v v') (bk : BK v' (A 2 s) bt (optA (A 2) tg) ((tTr U (U 22 s + 2).toNat (U 22 s)).map (fun k => some (A 2 k)))) (ls : tg ≠ -1 → vLs v' (A 5 tg) = vLs v (A 5 tg) ++ [some (A 2 s)]) : GI R A (Tst T bt 1) w (-1) p0 v' S (up U 20 s 7) := by
  have h : FX w s U (up U 20 s 7) := FX_up (FU.refl.fx (Int.le_refl _)) (by decide) (by decide) (by decide) (Or.inl ⟨rfl, Or.inl rfl⟩)
  have e : ∀ f, f ≠ 20 → up U 20 s 7 f = U f := fun f hf => up_n hf
  have v20 : up U 20 s 7 20 s = 7 := up_s
  have e19 : up U 20 s 7 19 w = U 19 w := by rw [e 19 (by decide)]
  have hsA : As w U s := ⟨by omega, by omega⟩
  have pq := pr.1
  have b19 := QV_b qv (f := 19) (c := 120) rfl rfl rfl w
  have b9 := QV_b qv (f := 9) (c := 12) rfl rfl rfl w
  have g' := g
  obtain ⟨g1, g2, g3, g4, g5, g6, ⟨g7, g8, g9⟩, ⟨L, ga, gb⟩, gc, gd, ge, gf, gg, gh, gj⟩ := g'
  have n3 := g3.2.2.2
  have o20 : ∀ j, As w U j → j ≠ s → up U 20 s 7 20 j = U 20 j := fun j hj hn => h.fs hj (by decide) (by decide) (by decide) (Or.inl hn)
  have lp : ∀ j, As w U j → up U 20 s 7 20 j = 5 ∨ up U 20 s 7 20 j = 6 → j ≠ s ∧ (U 20 j = 5 ∨ U 20 j = 6) := fun j hj hl => by
    by_cases z : j = s
    · rw [z, v20] at hl
      omega
    · rw [o20 j hj z] at hl
      exact ⟨z, hl⟩
  have lt : tg ≠ -1 → LB v A T U w tg := fun q => by
    obtain ⟨q1, q2⟩ := ltg.resolve_left q
    exact gf tg q2 q1
  have k0 := g1.w0.1
  have kx : ∀ c k, (Xl (A 2 s) bt c k ∨ (tg ≠ -1 ∧ c = A 5 tg ∧ k = 99)) → (c = A 2 s ∧ k = 5) ∨ (k = 99 ∧ hK v.1 c = 4 ∧ (c = bt ∨ (tg ≠ -1 ∧ c = A 5 tg ∧ T c = 2))) := fun c k y => by
    rcases y with (y | y) | y
    · exact Or.inl y
    · exact Or.inr ⟨y.2, by rw [y.1]; exact kb, Or.inl y.1⟩
    · have l := lt y.1
      exact Or.inr ⟨y.2.2, by rw [y.2.1]; exact l.2.2.1, Or.inr ⟨y.1, y.2.1, by rw [y.2.1]; exact l.2.2.2.1⟩⟩
  have xz : XZ v T (A 2 s) (fun c k => Xl (A 2 s) bt c k ∨ (tg ≠ -1 ∧ c = A 5 tg ∧ k = 99)) := fun c k y _ => by
    rcases kx c k y with z | ⟨z1, z2, z3⟩
    · exact Or.inr (Or.inr (Or.inr (Or.inr ⟨z.1, by rw [z.1, ka]; decide⟩)))
    · refine Or.inr (Or.inr (Or.inl ⟨z1, ?_⟩))
      rcases z3 with z3 | z3
      · rw [z3, tb]
        decide
      · rw [z3.2.2]
        decide
  have nf : ∀ c k, hK v.1 c ≠ 35 → hK v.1 c ≠ 4 → ¬ (Xl (A 2 s) bt c k ∨ (tg ≠ -1 ∧ c = A 5 tg ∧ k = 99)) := fun c k h1 h2 y => by
    rcases kx c k y with z | z
    · rw [z.1] at h1
      exact h1 ka
    · exact h2 z.2.1
  have nl : ∀ l, hK v.1 l = 4 → T l = 3 → ¬ (Xl (A 2 s) bt l 99 ∨ (tg ≠ -1 ∧ l = A 5 tg ∧ (99 : Nat) = 99)) := fun l k t y => by
    rcases kx l 99 y with z | ⟨_, _, z | z⟩
    · omega
    · rw [z, tb] at t
      omega
    · omega
  obtain ⟨t8, t9, t10, t11, t12, t13, t14⟩ := g6.2.2.2.2.2.2.1
  have k9 := g.k9
  have ae : AE w U A A T (Tst T bt 1) := ⟨fun _ _ => ⟨rfl, rfl⟩, fun _ _ => rfl, fun _ _ _ => rfl, rfl, rfl, fun c _ h4 => Tst_o (fun q => h4 (by rw [q]; exact tb))⟩
  have so : ∀ j, j ≠ 0 → j ≠ 7 → stL (up U 20 s 7) w (fun k => decide (up U 20 s 7 20 k = j)) = stL U w (fun k => decide (U 20 k = j)) ++ [] := fun j n1 n2 => by
    rw [List.append_nil]
    exact stL_fx h e19 (fun k hk hn => by rw [o20 k hk hn]) (fun _ => by rw [v20, u20, decide_eq_false (fun q => n2 q.symm), decide_eq_false (fun q => n1 q.symm)])
  have oo : stL (up U 20 s 7) w (isO (up U 20 s 7)) = stL U w (isO U) ++ [] := by
    rw [List.append_nil]
    refine stL_fx h e19 (fun k hk hn => ?_) (fun _ => by unfold isO; rw [v20, u20]; rfl)
    unfold isO
    rw [o20 k hk hn, e 25 (by decide), e 22 (by decide), pO_fx h pq qv w0.1 (pq.1 k hk).1]
  have pn : ∀ j, j ≠ s → pnd S U s j → pnd S (up U 20 s 7) (-1) j := fun j nj y => by
    rcases y with y | y
    · exact absurd y nj
    · refine Or.inr ?_
      rw [e 42 (by decide)]
      exact y
  have t' : PT v' (R 0) (R 1) (R 2) S := PT_fw f g1 (fun k _ => nf _ _ (by rw [k0]; decide) (by rw [k0]; decide)) (fun k => nf _ _ (by rw [g1.w0.2.2]; decide) (by rw [g1.w0.2.2]; decide)) (fun c y => by
    rcases kx c 99 y with z | z
    · omega
    · rw [z.2.1]
      decide)
  refine GI_mv (s := s) (z := A 2 s) g h pq qv w0 b9 b19.2 e19 ae f xz (Or.inl ⟨rfl, hsA⟩) (fun k y => ?_) (nf _ _ (by rw [k0]; decide) (by rw [k0]; decide)) (nf _ _ (by rw [k0]; decide) (by rw [k0]; decide)) (by rw [(f.ff (hK_lt k0 (by decide)) (nf _ 9 (by rw [k0]; decide) (by rw [k0]; decide))).1]; exact g9) t' g4 (Tst_g (TG_fw f g5) (f.kk kb (by decide))) ?_ ⟨L, ?_, ?_⟩ (fun j hj hp => ?_) (fun c hc ho => ?_) (fun j hj hl => ?_) (fun c hc hr => ?_) ?_ ?_
  · rcases kx _ k y with z | z
    · omega
    · omega
  · refine GL_mv g6 ae f e19 k0 g2.2.2.1 k9 (fun k _ => nf _ _ (by rw [k0]; decide) (by rw [k0]; decide)) (nf _ _ (by rw [g2.2.2.1]; decide) (by rw [g2.2.2.1]; decide)) (nl _ g6.1.2.1 t8) [] [] [] (fun k hk => by simp at hk) (so 1 (by decide) (by decide)) (so 9 (by decide) (by decide)) oo ?_ ?_ ?_ ?_ ?_ (fun k _ _ => by rw [e 26 (by decide)])
    · rw [(f.cc (hK_lt g6.2.1.2.1 (by decide)) (nl _ g6.2.1.2.1 t10)).1]
      simp
    · rw [(f.cc (hK_lt g6.2.2.2.1.2.1 (by decide)) (nl _ g6.2.2.2.1.2.1 t12)).1]
      simp
    · rw [(f.cc (hK_lt g6.2.2.2.2.1.2.1 (by decide)) (nl _ g6.2.2.2.2.1.2.1 t13)).1]
      simp
    · rw [List.map_nil, List.append_nil]
      exact IL_fw f (nl _ g6.2.2.1.2.1 t11) (fun c k y => by
        rcases kx c k y with z | z
        · rw [z.1, ka]; decide
        · rw [z.2.1]; decide) g6.2.2.1.2
    · rw [List.map_nil, List.append_nil]
      exact IL_fw f (nl _ g6.2.2.2.2.2.1.2.1 t14) (fun c k y => by
        rcases kx c k y with z | z
        · rw [z.1, ka]; decide
        · rw [z.2.1]; decide) g6.2.2.2.2.2.1.2
  · exact ML_fw f ga (nl _ k9 t9) (fun c k y hk => by
      rcases kx c k y with z | z
      · omega
      · omega)
  · have m0 : mPs U w s = [] := by unfold mPs; rw [u20]; rfl
    have m1 : mPs (up U 20 s 7) w s = [] := by unfold mPs; rw [v20]; rfl
    have := mPar_px (E := []) h pq qv w0 n3 b9 e19 hsA (by rw [m0, m1]; exact List.Perm.refl _)
    rw [List.append_nil] at this
    exact gb.trans this.symm
  · by_cases q : j = s
    · rw [q]
      left
      unfold FS
      rw [v20, tgt_fx h pq hsA, etg, e 22 (by decide), tTr_fx h pq _ _ (pq.1 s hsA).1]
      exact ⟨fun z => by omega, fun z => by omega, fun z => by omega, fun z => by omega, fun z => by omega, fun z => by omega, fun _ => ⟨bt, Tst_s, bk⟩, fun z => by omega, fun z => by omega, fun z => by omega, fun z => by omega⟩
    · exact Or.inr ⟨q, fun y => hp (pn j q y)⟩
  · refine Or.inr ⟨?_, ho⟩
    unfold Ab at hc ⊢
    rw [e 40 (by decide)] at hc
    exact hc
  · obtain ⟨hn, hl'⟩ := lp j hj hl
    have lb := gf j hj hl'
    have st : stL (up U 20 s 7) w (fun i => decide (up U 20 s 7 20 i = 7) && decide (tgt (up U 20 s 7) i = j)) = stL U w (fun i => decide (U 20 i = 7) && decide (tgt U i = j)) ++ (if tg = j then [s] else []) := by
      rw [stL_l (p := fun i => decide (U 20 i = 7) && decide (tgt U i = j)) h e19 n1 hs (fun k hk hn => by rw [o20 k hk hn, tgt_fx h pq hk]) (by rw [u20]; rfl)]
      congr 1
      rw [v20, tgt_fx h pq hsA, etg]
      by_cases q : tg = j
      · rw [if_pos q, decide_eq_true q]
        rfl
      · rw [if_neg q, decide_eq_false q]
        rfl
    have x7 := nf (A 2 j) 7 (by rw [lb.1]; decide) (by rw [lb.1]; decide)
    by_cases q : tg = j
    · have ntg : tg ≠ -1 := by have := hj.1; omega
      obtain ⟨l1, l2, l3, l4, l5⟩ := lb
      refine ⟨f.kk l1 (by decide), by rw [(f.ff (hK_lt l1 (by decide)) x7).2.2]; exact l2, f.kk l3 (by decide), ?_, ?_⟩
      · rw [ae.2.2.2.2.2 _ (by rw [l4]; decide) (by rw [l4]; decide)]
        exact l4
      · have := ls ntg
        rw [q] at this
        rw [this, l5, st, if_pos q, List.map_append]
        rfl
    · refine LB_keep ae f hj lb x7 (fun y => ?_) (by rw [st, if_neg q, List.append_nil])
      rcases kx _ 99 y with z | ⟨_, _, z | z⟩
      · omega
      · have := lb.2.2.2.1
        rw [z, tb] at this
        omega
      · obtain ⟨q1, q2⟩ := ltg.resolve_left z.1
        exact q (gj tg j q2 q1 hj hl' z.2.1.symm)
  · rw [e 33 (by decide)] at hr
    have nz : c / 4 ≠ s := fun y => by rw [y, u33] at hr; omega
    obtain ⟨c1, c2, c3⟩ := gg c hc hr
    have q := fun j => f.ff (k := j) (hK_lt c1.1 (by decide)) (nf _ _ (by rw [c1.1]; decide) (by rw [c1.1]; decide))
    refine ⟨Or.inr hr, ?_, fun hp => ?_⟩
    · rw [(q 4).1, c2, isS_fx h pq qv w0.1 e19 (by omega) (by omega)]
    · rw [(q 3).2.2, e 34 (by decide)]
      exact c3 (fun y => hp (pn _ nz y))
  · rw [e 33 (by decide)]
    exact gh
  · exact fun i d hi hl hd hq y => gj i d hi (lp i hi hl).2 hd (lp d hd hq).2 y
end BRK
