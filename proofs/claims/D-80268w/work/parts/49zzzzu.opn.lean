/-! COMPONENT, 36: a block begins, a block ends: the invariant *-/
section GOC
variable {R : Nat → Nat} {A A' : Nat → Int → Nat} {T T' : Nat → Nat} {w s x b own p0 : Int} {v v' : vT} {S S' U U1 : tSt} {X : Nat → Nat → Prop} {a l z : Nat}
theorem hK_ge {h : am_H} (e : hN h ≤ a) : hK h a = 0 := Classical.byContradiction (fun n => by have := hK_lt (h := h) (a := a) rfl n; omega)
/-- the invariant along a frame that keeps the rows -/
theorem GI_x (g : GI R A T w x p0 v S U) (pr : PR w U) (qv : QV U) (w0 : 0 ≤ w ∧ w ≤ 1) (f : Fw X v v') (xz : XZ v T z X) (hz : (z = A 2 x ∧ As w U x) ∨ hN v.1 ≤ z) (x2 : ∀ k, X z k → 5 ≤ k ∧ (k = 7 → U 20 x ≠ 5 ∧ U 20 x ≠ 6))
    (x0 : ∀ k, 7 ≤ k ∧ k ≤ 13 ∨ k = 17 → ¬ X (R 0) k) (xl : ∀ a, X a 99 → T a ≠ 2 ∧ T a ≠ 3) (xc : ∀ a k, X a k → k = 3 ∨ k = 4 → T a ≠ 5)
    (t' : PT v' (R 0) (R 1) (R 2) S') (h47 : S 47 0 ≤ S' 47 0) (h55 : S' 55 = S 55) (h56 : S' 56 = S 56) (tg : TG v' T' ∧ TZ v' T') (ht : ∀ a, T a ≠ 0 → T a ≠ 4 → T' a = T a) : GI R A T' w x p0 v' S' U := by
  have g' := g
  obtain ⟨g1, g2, g3, g4, g5, g6, ⟨g7, g8, g9⟩, ⟨L, ga, gb⟩, gc, gd, ge, gf, gg, gh, gj⟩ := g'
  have b19 := QV_b qv (f := 19) (c := 120) rfl rfl rfl w
  have b9 := QV_b qv (f := 9) (c := 12) rfl rfl rfl w
  have k0 := g1.w0.1
  have ae : AE w U A A T T' := ⟨fun _ _ => ⟨rfl, rfl⟩, fun _ _ => rfl, fun _ _ _ => rfl, rfl, rfl, ht⟩
  have pn : ∀ k, pnd S' U x k ↔ pnd S U x k := fun k => by unfold pnd; rw [h55, h56]
  have on : ∀ k, opn S' k ↔ opn S k := fun k => by unfold opn; rw [h55, h56]
  have nx : ∀ {c n : Nat}, hK v.1 c = n → n = 4 ∨ n = 5 → (n = 4 → T c = 2 ∨ T c = 3) → ¬ X c 99 := fun {c n} e hn ht y => by
    rcases hn with e4 | e5
    · have := xl c y
      have := ht e4
      omega
    · exact cc_z xz g5.1 e (by omega) (by omega) (by omega) (fun q => by omega) (by omega) (Or.inr (by omega)) y
  have nz : ∀ k, As w U k → k ≠ x → A 2 k ≠ z := fun k hk n1 => by
    rcases hz with ⟨z1, z2⟩ | z1
    · rw [z1]
      exact fun e => n1 (A2_inj gc b19.2 hk z2 e)
    · have := (gc k hk).1
      have := hK_lt (a := A 2 k) (h := v.1) rfl (by omega)
      omega
  have t9 : T (R 9) = 3 := g6.2.2.2.2.2.2.1.2.1
  obtain ⟨t8, _, t10, t11, t12, t13, t14⟩ := g6.2.2.2.2.2.2.1
  have k9 := g.k9
  refine GI_mv (s := x) g (FU.refl.fx (Int.le_refl _)) pr.1 qv w0 b9 b19.2 rfl ae f xz hz (fun k y => (x2 k y).1) (x0 7 (by omega)) (x0 8 (by omega)) ?_ t' (Int.le_trans g4 h47) tg ?_ ⟨L, ?_, gb⟩ (fun k hk hp => ?_) (fun c hc ho => Or.inr ⟨hc, fun y => ho ((on c).mpr y)⟩) (fun k hk hl => ?_) (fun c hc hr => ?_) gh gj
  · rw [(f.ff (hK_lt k0 (by decide)) (x0 9 (by omega))).1, h55]
    exact g9
  · refine GL_mv g6 ae f rfl k0 g2.2.2.1 k9 (fun k hk => x0 k (by omega)) (cc_z xz g5.1 g2.2.2.1 (by decide) (by decide) (by decide) (fun q => absurd q (by decide)) (by decide) (Or.inr (by decide))) (nx g6.1.2.1 (Or.inl rfl) (fun _ => Or.inr t8)) [] [] [] (fun k hk => by simp at hk) (by rw [List.append_nil]) (by rw [List.append_nil]) (by rw [List.append_nil]) ?_ ?_ ?_ ?_ ?_ (fun _ _ _ => rfl)
    · rw [(f.cc (hK_lt g6.2.1.2.1 (by decide)) (nx g6.2.1.2.1 (Or.inl rfl) (fun _ => Or.inr t10))).1]
      simp
    · rw [(f.cc (hK_lt g6.2.2.2.1.2.1 (by decide)) (nx g6.2.2.2.1.2.1 (Or.inl rfl) (fun _ => Or.inr t12))).1]
      simp
    · rw [(f.cc (hK_lt g6.2.2.2.2.1.2.1 (by decide)) (nx g6.2.2.2.2.1.2.1 (Or.inl rfl) (fun _ => Or.inr t13))).1]
      simp
    · rw [List.map_nil, List.append_nil]
      refine IL_fw f (nx g6.2.2.1.2.1 (Or.inl rfl) (fun _ => Or.inr t11)) (fun c k y => ⟨fun e => ?_, fun e => ?_⟩) g6.2.2.1.2
      · exact cc_z xz g5.1 e (by decide) (by decide) (by decide) (fun q => absurd q (by decide)) (by decide) (Or.inr (by decide)) y
      · exact cc_z xz g5.1 e (by decide) (by decide) (by decide) (fun q => absurd q (by decide)) (by decide) (Or.inr (by decide)) y
    · rw [List.map_nil, List.append_nil]
      refine IL_fw f (nx g6.2.2.2.2.2.1.2.1 (Or.inl rfl) (fun _ => Or.inr t14)) (fun c k y => ⟨fun e => ?_, fun e => ?_⟩) g6.2.2.2.2.2.1.2
      · exact cc_z xz g5.1 e (by decide) (by decide) (by decide) (fun q => absurd q (by decide)) (by decide) (Or.inr (by decide)) y
      · exact cc_z xz g5.1 e (by decide) (by decide) (by decide) (fun q => absurd q (by decide)) (by decide) (Or.inr (by decide)) y
  · exact ML_fw f ga (nx k9 (Or.inl rfl) (fun _ => Or.inr t9)) (fun c k y _ e => cc_z xz g5.1 e (by decide) (by decide) (by decide) (fun q => absurd q (by decide)) (by decide) (Or.inr (by decide)) y)
  · exact Or.inr ⟨fun e => hp (Or.inl e), fun y => hp ((pn k).mpr y)⟩
  · have lb := gf k hk hl
    refine LB_keep ae f hk lb ?_ (nx lb.2.2.1 (Or.inl rfl) (fun _ => Or.inl lb.2.2.2.1)) rfl
    by_cases e : k = x
    · intro y
      rcases hz with ⟨z1, z2⟩ | z1
      · rw [e, ← z1] at y
        have := (x2 7 y).2 rfl
        rw [e] at hl
        omega
      · exact cc_z xz g5.1 lb.1 (by decide) (by decide) (by decide) (fun q => absurd q (by decide)) (by decide) (Or.inl (by have := hK_lt lb.1 (by decide); omega)) y
    · exact cc_z xz g5.1 lb.1 (by decide) (by decide) (by decide) (fun q => absurd q (by decide)) (by decide) (Or.inl (nz k hk e))
  · obtain ⟨c1, c2, c3⟩ := gg c hc hr
    have q := fun j (hj : j = 3 ∨ j = 4) => f.ff (k := j) (hK_lt c1.1 (by decide)) (fun y => xc _ _ y hj c1.2.1)
    refine ⟨Or.inr hr, ?_, fun hp => ?_⟩
    · rw [(q 4 (Or.inr rfl)).1]
      exact c2
    · rw [(q 3 (Or.inl rfl)).2.2]
      exact c3 (fun y => hp ((pn _).mpr y))
/-- addresses with one more block -/
def Aeb (A : Nat → Int → Nat) (b : Int) (a : Nat) (f : Nat) (i : Int) : Nat := if f = 3 ∧ i = b then a else A f i
theorem Aeb_3 : Aeb A b a 3 b = a := if_pos ⟨rfl, rfl⟩
theorem Aeb_o {f : Nat} {i : Int} (h : f ≠ 3 ∨ i ≠ b) : Aeb A b a f i = A f i := by
  unfold Aeb
  rw [if_neg (by omega)]
theorem Aeb_f {f : Nat} (h : f ≠ 3) : Aeb A b a f = A f := by
  funext i
  exact Aeb_o (Or.inl h)
/-- a tag is set -/
def Tst (T : Nat → Nat) (l k : Nat) (a : Nat) : Nat := if a = l then k else T a
theorem Tst_s {k : Nat} : Tst T l k l = k := if_pos rfl
theorem Tst_o {k : Nat} (h : a ≠ l) : Tst T l k a = T a := if_neg h
theorem Tst_g {k : Nat} (t : TG v T ∧ TZ v T) (kl : hK v.1 l = 4) : TG v (Tst T l k) ∧ TZ v (Tst T l k) := by
  have lt := hK_lt kl (by decide)
  refine ⟨fun c h0 h1 h2 => ?_, fun c hc => ?_⟩
  · rw [Tst_o (fun e => h1 (by rw [e]; exact kl))]
    exact t.1 c h0 h1 h2
  · rw [Tst_o (by omega)]
    exact t.2 c hc
theorem oS_f {f : Nat} (h : f ≠ 47) (h2 : f ≠ 49) (h3 : f ≠ 50) (h4 : f ≠ 51) (h5 : f ≠ 55) (h6 : f ≠ 56) : oS S b f = S f := by
  unfold oS tAdv tTok
  rw [up_n h4, up_n h3, up_n h2, up_n h, up_n h5, up_n h6]
theorem oS_v : oS S b 55 0 = S 55 0 + 1 ∧ (∀ i, oS S b 56 i = if i = S 55 0 then b else S 56 i) := by
  refine ⟨?_, fun i => ?_⟩
  · unfold oS tAdv tTok
    rw [up_n (by decide), up_n (by decide), up_n (by decide), up_n (by decide), up_s]
  · unfold oS tAdv tTok
    rw [up_n (by decide), up_n (by decide), up_n (by decide), up_n (by decide), up_n (by decide), up_eq]
    by_cases e : i = S 55 0
    · rw [if_pos e, if_pos ⟨rfl, e⟩]
    · rw [if_neg e, if_neg (fun z => e z.2)]
theorem xS_f {f : Nat} (h : f ≠ 47) (h2 : f ≠ 49) (h3 : f ≠ 50) (h4 : f ≠ 51) (h5 : f ≠ 55) : xS S f = S f := by
  unfold xS tAdv tTok
  rw [up_n h4, up_n h3, up_n h2, up_n h, up_n h5]
theorem xS_v : xS S 55 0 = S 55 0 - 1 := by
  unfold xS tAdv tTok
  rw [up_n (by decide), up_n (by decide), up_n (by decide), up_n (by decide), up_s]
/-- what tokens and the depth may change -/
def Xn (rd wr : Nat) (a k : Nat) : Prop := Xr rd wr a k ∨ (a = rd ∧ k = 9)
theorem isS_same (h : FX w s U U1) (pq : PQ w U) (qv : QV U) (w0 : 0 ≤ w) (e19 : U1 19 w = U 19 w) (e20 : U1 20 = U 20) (e25 : U1 25 = U 25) {c : Int} : isS U1 w c = isS U w c := by
  unfold isS
  rw [e19, e20, e25]
  refine tFor_cg _ _ _ (fun k z k0 k1 => ?_)
  have hs : As w U (w * 120 + k) := ⟨by omega, by omega⟩
  rw [h.fs (f := 22) hs (by decide) (by decide) (by decide) (Or.inr (Or.inr (Or.inl rfl))), pO_fx h pq qv w0 (pq.1 _ hs).1]
theorem GI_open (g : GI R A T w own p0 v S U) (hP : PI w S U) (pr : PR w U) (qv : QV U) (w0 : 0 ≤ w ∧ w ≤ 1) (hb : b = w * 1024 + U 40 w) (ho : own = -1 ∨ As w U own) (op : OP w own b S U U1)
    (f : Fw (Xn (R 0) (R 2)) v v') (t' : PT v' (R 0) (R 1) (R 2) (oS S b)) (n9 : hI v'.1 (R 0) 9 = iI (S 55 0 + 1)) (h47 : S 47 0 ≤ oS S b 47 0) (hl : hN v.1 ≤ l) (kl : hK v'.1 l = 4) : GI R (Aeb A b a) (Tst T l 4) w (-1) p0 v' (oS S b) U1 := by
  have g' := g
  obtain ⟨g1, g2, g3, g4, g5, g6, ⟨g7, g8, g9⟩, ⟨L, ga, gb⟩, gc, gd, ge, gf, gg, gh, gj⟩ := g'
  obtain ⟨h, ⟨e19, e40, e42, e44⟩, ⟨e20, e33, e26, e25, e30, e22⟩, em, _⟩ := op
  have b19 := QV_b qv (f := 19) (c := 120) rfl rfl rfl w
  have b9 := QV_b qv (f := 9) (c := 12) rfl rfl rfl w
  have pq := pr.1
  have k0 := g1.w0.1
  have k2 := g1.w0.2.1
  have s55 := hP.2.2.2
  obtain ⟨o55, o56⟩ := oS_v (S := S) (b := b)
  have d0 : 0 ≤ S 55 0 := hP.1.2.2.2.2.2.2.2.1
  have ab : ∀ i, 0 ≤ i → i < S 55 0 → Ab w U (S 56 i) := fun i i0 i1 => by
    have := hP.2.2.2.2.2.2.2.1 i i0 i1
    exact ⟨by omega, by omega⟩
  have kx : ∀ c k, Xn (R 0) (R 2) c k → (hK v.1 c = 2 ∨ hK v.1 c = 3) ∧ k ≠ 99 ∧ k ≠ 7 ∧ k ≠ 8 ∧ k ≠ 10 ∧ k ≠ 11 ∧ k ≠ 12 ∧ k ≠ 13 ∧ k ≠ 17 := fun c k y => by
    rcases y with (y | y) | y
    · exact ⟨Or.inl (by rw [y.1]; exact k0), by omega⟩
    · exact ⟨Or.inr (by rw [y.1]; exact k2), by omega⟩
    · exact ⟨Or.inl (by rw [y.1]; exact k0), by omega⟩
  have xz : XZ v T (hN v.1) (Xn (R 0) (R 2)) := fun c k y _ => by have := (kx c k y).1; omega
  have tl : T l = 0 := g5.2 l hl
  have nb : ∀ c, Ab w U c → c ≠ b := fun c hc e => by have := hc.2; omega
  have ae : AE w U A (Aeb A b a) T (Tst T l 4) := ⟨fun k _ => ⟨Aeb_o (Or.inl (by decide)), Aeb_o (Or.inl (by decide))⟩, fun c hc => Aeb_o (Or.inr (nb c hc)), fun c _ _ => Aeb_o (Or.inl (by decide)), Aeb_f (by decide), Aeb_f (by decide), fun c h0 _ => Tst_o (fun e => h0 (by rw [e]; exact tl))⟩
  have n99 : ∀ c, ¬ Xn (R 0) (R 2) c 99 := fun c y => (kx c 99 y).2.1 rfl
  have pn : ∀ k, As w U k → pnd S U own k → pnd (oS S b) U1 (-1) k := fun k hk y => by
    rcases y with y | ⟨i, i0, i1, y⟩
    · refine Or.inr ⟨S 55 0, d0, by omega, ?_⟩
      rw [o56, if_pos rfl, e42, y]
    · refine Or.inr ⟨i, i0, by omega, ?_⟩
      rw [o56, if_neg (by omega), h.fb (ab i i0 i1) (by decide) (by decide)]
      exact y
  have on : ∀ c, opn S c → opn (oS S b) c := fun c y => by
    obtain ⟨i, i0, i1, y⟩ := y
    refine ⟨i, i0, by omega, ?_⟩
    rw [o56, if_neg (by omega)]
    exact y
  have ob : opn (oS S b) b := ⟨S 55 0, d0, by omega, by rw [o56, if_pos rfl]⟩
  have ff0 : ∀ {c n : Nat} (k : Nat), hK v.1 c = n → n ≠ 0 → n ≠ 2 → n ≠ 3 → hI v'.1 c k = hI v.1 c k ∧ hJ v'.1 c k = hJ v.1 c k ∧ hR v'.1 c k = hR v.1 c k := fun k e h1 h2 h3 => f.ff (hK_lt e h1) (fun y => by have := (kx _ _ y).1; omega)
  have so : ∀ j, stL U1 w (fun s => decide (U1 20 s = j)) = stL U w (fun s => decide (U 20 s = j)) ++ [] := fun j => by
    rw [List.append_nil, e20]
    unfold stL
    rw [e19]
  have oo : stL U1 w (isO U1) = stL U w (isO U) ++ [] := by
    rw [List.append_nil]
    have : ∀ k, As w U k → isO U1 k = isO U k := fun k hk => by
      unfold isO
      rw [e20, e25, e22, pO_fx h pq qv w0.1 (pq.1 k hk).1]
    exact stL_fx h e19 (fun k hk _ => this k hk) (fun hk => this _ hk)
  refine GI_mv (s := own) (z := hN v.1) g h pq qv w0 b9 b19.2 e19 ae f xz (Or.inr (Nat.le_refl _)) (fun k y => ?_) (fun y => (kx _ _ y).2.2.1 rfl) (fun y => (kx _ _ y).2.2.2.1 rfl) (by rw [o55]; exact n9) t' (Int.le_trans g4 h47) (Tst_g (TG_fw f g5) kl) ?_ ⟨L, ?_, by rw [em]; exact gb⟩ (fun k hk hp => ?_) (fun c hc hx => ?_) (fun k hk hl => ?_) (fun c hc hr => ?_) ?_ ?_
  · have := (kx _ _ y).1
    have l1 : hK v.1 (hN v.1) = 0 := hK_ge (Nat.le_refl _)
    omega
  · refine GL_mv g6 ae f e19 k0 g2.2.2.1 g.k9 (fun k hk y => by have := (kx _ _ y).2; omega) (fun y => by have := (kx _ _ y).1; have := g2.2.2.1; omega) (n99 _) [] [] [] (fun k hk => by simp at hk) (so 1) (so 9) oo ?_ ?_ ?_ ?_ ?_ (fun k _ _ => by rw [e26])
    · rw [(f.cc (hK_lt g6.2.1.2.1 (by decide)) (n99 _)).1]
      simp
    · rw [(f.cc (hK_lt g6.2.2.2.1.2.1 (by decide)) (n99 _)).1]
      simp
    · rw [(f.cc (hK_lt g6.2.2.2.2.1.2.1 (by decide)) (n99 _)).1]
      simp
    · rw [List.map_nil, List.append_nil]
      exact IL_fw f (n99 _) (fun c k y => by have := (kx c k y).1; omega) g6.2.2.1.2
    · rw [List.map_nil, List.append_nil]
      exact IL_fw f (n99 _) (fun c k y => by have := (kx c k y).1; omega) g6.2.2.2.2.2.1.2
  · exact ML_fw f ga (n99 _) (fun c k y _ => by have := (kx c k y).1; omega)
  · exact Or.inr ⟨fun e => hp (pn k hk (Or.inl e)), fun y => hp (pn k hk y)⟩
  · have : c ≠ b := fun e => hx (by rw [e]; exact ob)
    exact Or.inr ⟨⟨hc.1, by have := hc.2; omega⟩, fun y => hx (on c y)⟩
  · rw [e20] at hl
    have lb := gf k hk hl
    refine LB_keep ae f hk lb (fun y => (kx _ _ y).2.2.1 rfl) (n99 _) ?_
    exact stL_fx h e19 (fun j hj _ => by rw [e20, tgt_fx h pq hj]) (fun hj => by rw [e20, tgt_fx h pq hj])
  · rw [e33] at hr
    obtain ⟨c1, c2, c3⟩ := gg c hc hr
    have q := fun j => ff0 j c1.1 (by decide) (by decide) (by decide)
    refine ⟨Or.inr hr, ?_, fun hp => ?_⟩
    · rw [Aeb_o (Or.inl (by decide)), (q 4).1, isS_same h pq qv w0.1 e19 e20 e25]
      exact c2
    · have np : ¬ pnd S U own (c / 4) := fun y => hp (pn _ hc y)
      have no : c / 4 ≠ own := fun e => np (Or.inl e)
      have b33 := QV_b qv (f := 33) (c := 4) rfl rfl rfl (c / 4)
      have e34 : U1 34 c = U 34 c := by
        have := h.fn (f := 34) (i := c % 4) hc (by decide) (by omega) (by omega) no
        rw [show 4 * (c / 4) + c % 4 = c by omega] at this
        exact this
      have p8 := (pq.1 _ hc).2.2.2.2.2.2.2 (c % 4) (by omega) hr
      rw [show 4 * (c / 4) + c % 4 = c by omega] at p8
      rw [Aeb_o (Or.inl (by decide)), (q 3).2.2, c3 np, e34, Aeb_o (Or.inr ?_)]
      rcases p8 with p8 | p8
      · have := pr.2.1
        omega
      · exact nb _ p8
  · rw [e33, Aeb_f (by decide)]
    exact gh
  · rw [e20, Aeb_f (by decide)]
    exact gj
theorem GI_close (g : GI R A T w (-1) p0 v S U) (hP : PI w S U) (pr : PR w U) (qv : QV U) (w0 : 0 ≤ w ∧ w ≤ 1) (d1 : 1 ≤ S 55 0) (e56 : S 56 (S 55 0 - 1) = b) (e42 : U 42 b = own)
    (f : Fw (Xn (R 0) (R 2)) v v') (t' : PT v' (R 0) (R 1) (R 2) (xS S)) (n9 : hI v'.1 (R 0) 9 = iI (S 55 0 - 1)) (h47 : S 47 0 ≤ xS S 47 0) (tl : T l = 4) (kl : hK v.1 l = 4) (fb : FB v' A (Tst T l 1) U w b) : GI R A (Tst T l 1) w own p0 v' (xS S) U := by
  have g' := g
  obtain ⟨g1, g2, g3, g4, g5, g6, ⟨g7, g8, g9⟩, ⟨L, ga, gb⟩, gc, gd, ge, gf, gg, gh, gj⟩ := g'
  have b19 := QV_b qv (f := 19) (c := 120) rfl rfl rfl w
  have b9 := QV_b qv (f := 9) (c := 12) rfl rfl rfl w
  have pq := pr.1
  have k0 := g1.w0.1
  have k2 := g1.w0.2.1
  have o55 := xS_v (S := S)
  have o56 : xS S 56 = S 56 := xS_f (by decide) (by decide) (by decide) (by decide) (by decide)
  have kx : ∀ c k, Xn (R 0) (R 2) c k → (hK v.1 c = 2 ∨ hK v.1 c = 3) ∧ k ≠ 99 ∧ k ≠ 7 ∧ k ≠ 8 ∧ k ≠ 10 ∧ k ≠ 11 ∧ k ≠ 12 ∧ k ≠ 13 ∧ k ≠ 17 := fun c k y => by
    rcases y with (y | y) | y
    · exact ⟨Or.inl (by rw [y.1]; exact k0), by omega⟩
    · exact ⟨Or.inr (by rw [y.1]; exact k2), by omega⟩
    · exact ⟨Or.inl (by rw [y.1]; exact k0), by omega⟩
  have xz : XZ v T (hN v.1) (Xn (R 0) (R 2)) := fun c k y _ => by have := (kx c k y).1; omega
  have ae : AE w U A A T (Tst T l 1) := ⟨fun _ _ => ⟨rfl, rfl⟩, fun _ _ => rfl, fun _ _ _ => rfl, rfl, rfl, fun c _ h4 => Tst_o (fun e => h4 (by rw [e]; exact tl))⟩
  have n99 : ∀ c, ¬ Xn (R 0) (R 2) c 99 := fun c y => (kx c 99 y).2.1 rfl
  have pn : ∀ k, As w U k → pnd S U (-1) k → pnd (xS S) U own k := fun k hk y => by
    rcases y with y | ⟨i, i0, i1, y⟩
    · have := hk.1
      omega
    · by_cases e : i = S 55 0 - 1
      · rw [e, e56, e42] at y
        exact Or.inl y.symm
      · exact Or.inr ⟨i, i0, by omega, by rw [o56]; exact y⟩
  have on : ∀ c, c ≠ b → opn S c → opn (xS S) c := fun c hc y => by
    obtain ⟨i, i0, i1, y⟩ := y
    refine ⟨i, i0, ?_, by rw [o56]; exact y⟩
    by_cases e : i = S 55 0 - 1
    · rw [e, e56] at y
      exact absurd y.symm hc
    · omega
  have ff0 : ∀ {c n : Nat} (k : Nat), hK v.1 c = n → n ≠ 0 → n ≠ 2 → n ≠ 3 → hI v'.1 c k = hI v.1 c k ∧ hJ v'.1 c k = hJ v.1 c k ∧ hR v'.1 c k = hR v.1 c k := fun k e h1 h2 h3 => f.ff (hK_lt e h1) (fun y => by have := (kx _ _ y).1; omega)
  refine GI_mv (s := own) (z := hN v.1) g (FU.refl.fx (Int.le_refl _)) pq qv w0 b9 b19.2 rfl ae f xz (Or.inr (Nat.le_refl _)) (fun k y => ?_) (fun y => (kx _ _ y).2.2.1 rfl) (fun y => (kx _ _ y).2.2.2.1 rfl) (by rw [o55]; exact n9) t' (Int.le_trans g4 h47) (Tst_g (TG_fw f g5) (f.kk kl (by decide))) ?_ ⟨L, ?_, gb⟩ (fun k hk hp => ?_) (fun c hc hx => ?_) (fun k hk hl => ?_) (fun c hc hr => ?_) gh gj
  · have := (kx _ _ y).1
    have l1 : hK v.1 (hN v.1) = 0 := hK_ge (Nat.le_refl _)
    omega
  · refine GL_mv g6 ae f rfl k0 g2.2.2.1 g.k9 (fun k hk y => by have := (kx _ _ y).2; omega) (fun y => by have := (kx _ _ y).1; have := g2.2.2.1; omega) (n99 _) [] [] [] (fun k hk => by simp at hk) (by rw [List.append_nil]) (by rw [List.append_nil]) (by rw [List.append_nil]) ?_ ?_ ?_ ?_ ?_ (fun k _ _ => rfl)
    · rw [(f.cc (hK_lt g6.2.1.2.1 (by decide)) (n99 _)).1]
      simp
    · rw [(f.cc (hK_lt g6.2.2.2.1.2.1 (by decide)) (n99 _)).1]
      simp
    · rw [(f.cc (hK_lt g6.2.2.2.2.1.2.1 (by decide)) (n99 _)).1]
      simp
    · rw [List.map_nil, List.append_nil]
      exact IL_fw f (n99 _) (fun c k y => by have := (kx c k y).1; omega) g6.2.2.1.2
    · rw [List.map_nil, List.append_nil]
      exact IL_fw f (n99 _) (fun c k y => by have := (kx c k y).1; omega) g6.2.2.2.2.2.1.2
  · exact ML_fw f ga (n99 _) (fun c k y _ => by have := (kx c k y).1; omega)
  · exact Or.inr ⟨fun e => hp (Or.inl e), fun y => hp (pn k hk y)⟩
  · by_cases e : c = b
    · rw [e]
      exact Or.inl fb
    · exact Or.inr ⟨hc, fun y => hx (on c e y)⟩
  · have lb := gf k hk hl
    exact LB_keep ae f hk lb (fun y => (kx _ _ y).2.2.1 rfl) (n99 _) rfl
  · obtain ⟨c1, c2, c3⟩ := gg c hc hr
    have q := fun j => ff0 j c1.1 (by decide) (by decide) (by decide)
    refine ⟨Or.inr hr, ?_, fun hp => ?_⟩
    · rw [(q 4).1]
      exact c2
    · rw [(q 3).2.2]
      exact c3 (fun y => hp (pn _ hc y))
end GOC
