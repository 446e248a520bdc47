/-! COMPONENT, 42: a statement in hand: its sort, its end *-/
section GES
variable {R : Nat → Nat} {A A' : Nat → Int → Nat} {T T' : Nat → Nat} {w s x b k p0 : Int} {v v' : vT} {S S' U U1 : tSt} {X : Nat → Nat → Prop} {z : Nat}
/-- a statement comes to its end, the rows stay -/
theorem GI_end (g : GI R A T w x p0 v S U) (hx : As w U x) (pr : PR w U) (qv : QV U) (w0 : 0 ≤ w ∧ w ≤ 1) (f : Fw X v v') (xz : XZ v T z X) (hz : z = A 2 x) (x2 : ∀ k, X z k → 5 ≤ k ∧ (k = 7 → U 20 x ≠ 5 ∧ U 20 x ≠ 6))
    (x0 : ∀ k, 7 ≤ k ∧ k ≤ 13 ∨ k = 17 → ¬ X (R 0) k) (xl : ∀ a, X a 99 → T a ≠ 2 ∧ T a ≠ 3) (xc : ∀ a k, X a k → k = 3 ∨ k = 4 → T a ≠ 5)
    (t' : PT v' (R 0) (R 1) (R 2) S') (h47 : S 47 0 ≤ S' 47 0) (h55 : S' 55 = S 55) (h56 : S' 56 = S 56) (tg : TG v' T' ∧ TZ v' T') (ht : ∀ a, T a ≠ 0 → T a ≠ 4 → T' a = T a) (fx : FS v' A T' U w (fun _ => none) (fun _ => []) x) (c3x : ∀ c, c / 4 = x → c % 4 < U 33 x → hR v.1 (A 4 c) 3 = some (A 3 (U 34 c))) : GI R A T' w (-1) p0 v' S' U := by
  have g' := g
  obtain ⟨g1, g2, g3, g4, g5, g6, ⟨g7, g8, g9⟩, ⟨L, ga, gb⟩, gc, gd, ge, gf, gg, gh, gj⟩ := g'
  have b19 := QV_b qv (f := 19) (c := 120) rfl rfl rfl w
  have b9 := QV_b qv (f := 9) (c := 12) rfl rfl rfl w
  have k0 := g1.w0.1
  have ae : AE w U A A T T' := ⟨fun _ _ => ⟨rfl, rfl⟩, fun _ _ => rfl, fun _ _ _ => rfl, rfl, rfl, ht⟩
  have pn : ∀ k, k ≠ x → pnd S U x k → pnd S' U (-1) k := fun k nk y => by
    rcases y with y | y
    · exact absurd y nk
    · refine Or.inr ?_
      rw [h55, h56]
      exact y
  have on : ∀ k, opn S' k ↔ opn S k := fun k => by unfold opn; rw [h55, h56]
  have nx : ∀ {c n : Nat}, hK v.1 c = n → n = 4 ∨ n = 5 → (n = 4 → T c = 2 ∨ T c = 3) → ¬ X c 99 := fun {c n} e hn ht y => by
    rcases hn with e4 | e5
    · have := xl c y
      have := ht e4
      omega
    · exact cc_z xz g5.1 e (by omega) (by omega) (by omega) (fun q => by omega) (by omega) (Or.inr (by omega)) y
  have nz : ∀ k, As w U k → k ≠ x → A 2 k ≠ z := fun k hk n1 => by
    rw [hz]
    exact fun e => n1 (A2_inj gc b19.2 hk hx e)
  have t9 : T (R 9) = 3 := g6.2.2.2.2.2.2.1.2.1
  obtain ⟨t8, _, t10, t11, t12, t13, t14⟩ := g6.2.2.2.2.2.2.1
  have k9 := g.k9
  refine GI_mv (s := x) g (FU.refl.fx (Int.le_refl _)) pr.1 qv w0 b9 b19.2 rfl ae f xz (Or.inl ⟨hz, hx⟩) (fun k y => (x2 k y).1) (x0 7 (by omega)) (x0 8 (by omega)) ?_ t' (Int.le_trans g4 h47) tg ?_ ⟨L, ?_, gb⟩ (fun k hk hp => ?_) (fun c hc ho => Or.inr ⟨hc, fun y => ho ((on c).mpr y)⟩) (fun k hk hl => ?_) (fun c hc hr => ?_) gh gj
  · rw [(f.ff (hK_lt k0 (by decide)) (x0 9 (by omega))).1, h55]
    exact g9
  · refine GL_mv g6 ae f rfl k0 g2.2.2.1 k9 (fun k hk => x0 k (by omega)) (cc_z xz g5.1 g2.2.2.1 (by decide) (by decide) (by decide) (fun q => absurd q (by decide)) (by decide) (Or.inr (by decide))) (nx g6.1.2.1 (Or.inl rfl) (fun _ => Or.inr t8)) [] [] [] (fun k hk => by simp at hk) (by rw [List.append_nil]) (by rw [List.append_nil]) (by rw [List.append_nil]) ?_ ?_ ?_ ?_ ?_ (fun _ _ _ => rfl)
    · rw [(f.cc (hK_lt g6.2.1.2.1 (by decide)) (nx g6.2.1.2.1 (Or.inl rfl) (fun _ => Or.inr t10))).1]
      simp
    · rw [(f.cc (hK_lt g6.2.2.2.1.2.1 (by decide)) (nx g6.2.2.2.1.2.1 (Or.inl rfl) (fun _ => Or.inr t12))).1]
      simp
    · rw [(f.cc (hK_lt g6.2.2.2.2.1.2.1 (by decide)) (nx g6.2.2.2.2.1.2.1 (Or.inl rfl) (fun _ => Or.inr t13))).1]
      simp
    · rw [List.map_nil, List.append_nil]
      refine IL_fw f (nx g6.2.2.1.2.1 (Or.inl rfl) (fun _ => Or.inr t11)) (fun c k y => ⟨fun e => ?_, fun e => ?_⟩) g6.2.2.1.2
      · exact cc_z xz g5.1 e (by decide) (by decide) (by decide) (fun q => absurd q (by decide)) (by decide) (Or.inr (by decide)) y
      · exact cc_z xz g5.1 e (by decide) (by decide) (by decide) (fun q => absurd q (by decide)) (by decide) (Or.inr (by decide)) y
    · rw [List.map_nil, List.append_nil]
      refine IL_fw f (nx g6.2.2.2.2.2.1.2.1 (Or.inl rfl) (fun _ => Or.inr t14)) (fun c k y => ⟨fun e => ?_, fun e => ?_⟩) g6.2.2.2.2.2.1.2
      · exact cc_z xz g5.1 e (by decide) (by decide) (by decide) (fun q => absurd q (by decide)) (by decide) (Or.inr (by decide)) y
      · exact cc_z xz g5.1 e (by decide) (by decide) (by decide) (fun q => absurd q (by decide)) (by decide) (Or.inr (by decide)) y
  · exact ML_fw f ga (nx k9 (Or.inl rfl) (fun _ => Or.inr t9)) (fun c k y _ e => cc_z xz g5.1 e (by decide) (by decide) (by decide) (fun q => absurd q (by decide)) (by decide) (Or.inr (by decide)) y)
  · by_cases e : k = x
    · rw [e]
      exact Or.inl fx
    · exact Or.inr ⟨e, fun y => hp (pn k e y)⟩
  · have lb := gf k hk hl
    refine LB_keep ae f hk lb ?_ (nx lb.2.2.1 (Or.inl rfl) (fun _ => Or.inl lb.2.2.2.1)) rfl
    by_cases e : k = x
    · intro y
      rw [e, ← hz] at y
      have := (x2 7 y).2 rfl
      rw [e] at hl
      omega
    · exact cc_z xz g5.1 lb.1 (by decide) (by decide) (by decide) (fun q => absurd q (by decide)) (by decide) (Or.inl (nz k hk e))
  · obtain ⟨c1, c2, c3⟩ := gg c hc hr
    have q := fun j (hj : j = 3 ∨ j = 4) => f.ff (k := j) (hK_lt c1.1 (by decide)) (fun y => xc _ _ y hj c1.2.1)
    refine ⟨Or.inr hr, ?_, fun hp => ?_⟩
    · rw [(q 4 (Or.inr rfl)).1]
      exact c2
    · rw [(q 3 (Or.inl rfl)).2.2]
      by_cases e : c / 4 = x
      · exact c3x c e (by rw [← e]; exact hr)
      · exact c3 (fun y => hp (pn _ e y))
theorem tTg_ne (p : PQ w U) (no : ∀ c, Ab w U c → U 42 c ≠ s) (s0 : s ≠ -1) : ∀ (d : Nat) (c : Int), Ab w U c → tTg U d c ≠ s := by
  intro d
  induction d with
  | zero => intro c _ e; exact s0 e.symm
  | succ d ih =>
    intro c hc
    rw [tTg]
    obtain ⟨p1, _⟩ := p.2.1 c hc
    rcases p1 with ⟨q1, q2⟩ | ⟨q1, q2, q3⟩
    · rw [if_pos (Or.inl q1)]
      exact fun e => s0 e.symm
    · split
      · exact fun e => s0 e.symm
      · split
        · exact no c hc
        · exact ih _ (p.1 _ q2).1
/-- the sort of a statement in hand is told -/
theorem GI_sort (g : GI R A T w s p0 v S U) (pr : PR w U) (qv : QV U) (w0 : 0 ≤ w ∧ w ≤ 1) (hs : As w U s) (u20 : U 20 s = 0) (hk : k = 4 ∨ k = 5 ∨ k = 6 ∨ k = 10 ∨ k = 11) (no : ∀ c, Ab w U c → U 42 c ≠ s) (u33 : U 33 s = 0) (u30 : U 30 s = 0)
    (lb : k = 5 ∨ k = 6 → hK v.1 (A 2 s) = 34 ∧ hR v.1 (A 2 s) 7 = some (A 5 s) ∧ hK v.1 (A 5 s) = 4 ∧ T (A 5 s) = 2 ∧ vLs v (A 5 s) = [] ∧ ∀ t, As w U t → U 20 t = 5 ∨ U 20 t = 6 → A 5 t ≠ A 5 s) : GI R A T w s p0 v S (up U 20 s k) := by
  have h : FX w s U (up U 20 s k) := FX_up (FU.refl.fx (Int.le_refl _)) (by decide) (by decide) (by decide) (Or.inl ⟨rfl, Or.inl rfl⟩)
  have e : ∀ f, f ≠ 20 → up U 20 s k f = U f := fun f hf => up_n hf
  have v20 : up U 20 s k 20 s = k := up_s
  have e19 : up U 20 s k 19 w = U 19 w := by rw [e 19 (by decide)]
  have pq := pr.1
  have b19 := QV_b qv (f := 19) (c := 120) rfl rfl rfl w
  have b9 := QV_b qv (f := 9) (c := 12) rfl rfl rfl w
  have g' := g
  obtain ⟨g1, g2, g3, g4, g5, g6, ⟨g7, g8, g9⟩, ⟨L, ga, gb⟩, gc, gd, ge, gf, gg, gh, gj⟩ := g'
  have n3 := g3.2.2.2
  have o20 : ∀ j, As w U j → j ≠ s → up U 20 s k 20 j = U 20 j := fun j hj hn => h.fs hj (by decide) (by decide) (by decide) (Or.inl hn)
  have s0 : s ≠ -1 := by have := hs.1; omega
  have lp : ∀ j, As w U j → up U 20 s k 20 j = 5 ∨ up U 20 s k 20 j = 6 → (j = s ∧ (k = 5 ∨ k = 6)) ∨ (j ≠ s ∧ (U 20 j = 5 ∨ U 20 j = 6)) := fun j hj hl => by
    by_cases z : j = s
    · rw [z, v20] at hl
      exact Or.inl ⟨z, hl⟩
    · rw [o20 j hj z] at hl
      exact Or.inr ⟨z, hl⟩
  have tn : ∀ j, As w U j → tgt U j ≠ s := fun j hj => tTg_ne pq no s0 _ _ (pq.1 j hj).1
  have pn : ∀ j, pnd S (up U 20 s k) s j ↔ pnd S U s j := fun j => by unfold pnd; rw [e 42 (by decide)]
  refine GI_mv (s := s) (z := hN v.1) (X := fun _ _ => False) g h pq qv w0 b9 b19.2 e19 AE.refl Fw.refl (fun _ _ y => y.elim) (Or.inr (Nat.le_refl _)) (fun _ y => y.elim) (fun y => y) (fun y => y) g9 g1 g4 g5 (GL_fx h pq qv w0.1 e19 (fun j _ _ => by rw [e 26 (by decide)]) (by omega) (by omega) g6) ⟨L, ga, ?_⟩ (fun j hj hp => ?_) (fun c hc ho => ?_) (fun j hj hl => ?_) (fun c hc hr => ?_) ?_ ?_
  · have m0 : mPs U w s = [] := by unfold mPs; rw [u20]; rfl
    have m1 : mPs (up U 20 s k) w s = [] := by
      unfold mPs
      rw [v20, e 33 (by decide), e 30 (by decide), u33, u30]
      rcases hk with z | z | z | z | z <;> rw [z] <;> rfl
    have := mPar_px (E := []) h pq qv w0 n3 b9 e19 hs (by rw [m0, m1]; exact List.Perm.refl _)
    rw [List.append_nil] at this
    exact gb.trans this.symm
  · exact Or.inr ⟨fun y => hp (Or.inl y), fun y => hp ((pn j).mpr y)⟩
  · refine Or.inr ⟨?_, ho⟩
    unfold Ab at hc ⊢
    rw [e 40 (by decide)] at hc
    exact hc
  · rcases lp j hj hl with ⟨z1, z2⟩ | ⟨z1, z2⟩
    · obtain ⟨y1, y2, y3, y4, y5, _⟩ := lb z2
      rw [z1]
      refine ⟨y1, y2, y3, y4, ?_⟩
      have : stL (up U 20 s k) w (fun i => decide (up U 20 s k 20 i = 7) && decide (tgt (up U 20 s k) i = s)) = [] := by
        unfold stL
        rw [List.filter_eq_nil_iff]
        intro i hi
        obtain ⟨q, hq, e2⟩ := List.mem_map.mp hi
        have hq' := List.mem_range.mp hq
        rw [e19] at hq'
        have hi' : As w U i := ⟨by omega, by omega⟩
        rw [tgt_fx h pq hi', decide_eq_false (p := tgt U i = s) (tn i hi'), Bool.and_false]
        decide
      rw [this, y5]
      rfl
    · have lb1 := gf j hj z2
      refine LB_keep (X := fun _ _ => False) AE.refl Fw.refl hj lb1 (fun y => y) (fun y => y) ?_
      exact stL_fx h e19 (fun i hi hn => by rw [o20 i hi hn, tgt_fx h pq hi]) (fun _ => by rw [v20, u20, decide_eq_false (p := k = 7) (by omega), Bool.false_and]; rfl)
  · rw [e 33 (by decide)] at hr
    have nz : c / 4 ≠ s := fun y => by rw [y, u33] at hr; omega
    obtain ⟨c1, c2, c3⟩ := gg c hc hr
    refine ⟨Or.inr hr, ?_, fun hp => ?_⟩
    · rw [c2, isS_fx h pq qv w0.1 e19 (by omega) (by omega)]
    · rw [e 34 (by decide)]
      exact c3 (fun y => hp ((pn _).mpr y))
  · rw [e 33 (by decide)]
    exact gh
  · intro i d hi hl hd hq y
    rcases lp i hi hl with ⟨z1, z2⟩ | ⟨z1, z2⟩
    · rcases lp d hd hq with ⟨y1, y2⟩ | ⟨y1, y2⟩
      · rw [z1, y1]
      · rw [z1] at y
        exact absurd y.symm ((lb z2).2.2.2.2.2 d hd y2)
    · rcases lp d hd hq with ⟨y1, y2⟩ | ⟨y1, y2⟩
      · rw [y1] at y
        exact absurd y ((lb y2).2.2.2.2.2 i hi z2)
      · exact gj i d hi z2 hd y2 y
end GES
