/-! COMPONENT, 67: a catch is registered *-/
/-- the rows of the try s with one more catch: kinds N, parameter x at p -/
def tRg (s : Int) (N : List (Int × Int)) (x p : Int) (U : tSt) : tSt := up (up (up (nW 37 38 39 (4 * s + U 33 s) N (up U 37 (4 * s + U 33 s) 0)) 35 (4 * s + U 33 s) x) 36 (4 * s + U 33 s) p) 33 s (U 33 s + 1)
/-- addresses with one more catch -/
def Aec (A : Nat → Int → Nat) (c : Int) (a : Nat) (f : Nat) (i : Int) : Nat := if f = 4 ∧ i = c then a else A f i
section REG
variable {r ca lk l9 : Nat} {R : Nat → Nat} {A : Nat → Int → Nat} {T : Nat → Nat} {w s p0 x p : Int} {v v' : vT} {S S' U : tSt} {N : List (Int × Int)} {L0 : List tMi}
theorem Aec_4 {c : Int} : Aec A c ca 4 c = ca := if_pos ⟨rfl, rfl⟩
theorem Aec_o {c i : Int} {f : Nat} (h : f ≠ 4 ∨ i ≠ c) : Aec A c ca f i = A f i := by
  unfold Aec
  rw [if_neg (by omega)]
theorem Aec_f {c : Int} {f : Nat} (h : f ≠ 4) : Aec A c ca f = A f := by
  funext i
  exact Aec_o (Or.inl h)
theorem nW_g {c : Int} {V : tSt} {f : Nat} (h1 : f ≠ 37) (h2 : f ≠ 38) (h3 : f ≠ 39) : nW 37 38 39 c N V f = V f := by
  funext j
  exact nW_o N V f j h1 h2 h3
theorem tRg_o {f : Nat} (h : f ≠ 33 ∧ f ≠ 35 ∧ f ≠ 36 ∧ f ≠ 37 ∧ f ≠ 38 ∧ f ≠ 39) : tRg s N x p U f = U f := by
  unfold tRg
  rw [up_n h.1, up_n h.2.2.1, up_n h.2.1, nW_g h.2.2.2.1 h.2.2.2.2.1 h.2.2.2.2.2, up_n h.2.2.2.1]
theorem tRg_v (j : Int) : tRg s N x p U 33 j = (if j = s then U 33 s + 1 else U 33 j) ∧ tRg s N x p U 35 j = (if j = 4 * s + U 33 s then x else U 35 j) ∧ tRg s N x p U 36 j = (if j = 4 * s + U 33 s then p else U 36 j) ∧ tRg s N x p U 37 j = (if j = 4 * s + U 33 s then (N.length : Int) else U 37 j) ∧
    tRg s N x p U 38 j = (if 4 * (4 * s + U 33 s) ≤ j ∧ j < 4 * (4 * s + U 33 s) + N.length then (N.getD (j - 4 * (4 * s + U 33 s)).toNat (0, 0)).1 else U 38 j) ∧ tRg s N x p U 39 j = (if 4 * (4 * s + U 33 s) ≤ j ∧ j < 4 * (4 * s + U 33 s) + N.length then (N.getD (j - 4 * (4 * s + U 33 s)).toNat (0, 0)).2 else U 39 j) := by
  generalize hc : 4 * s + U 33 s = c
  have ww := nW_w (x := c) (fc := 37) (fw := 38) (fp := 39) (by decide) (by decide) (by decide) N (up U 37 c 0) j
  have e37 : up U 37 c 0 37 c = 0 := up_s
  rw [e37, up_n (by decide), up_n (by decide), show 4 * c + 0 = 4 * c by omega] at ww
  unfold tRg
  rw [hc]
  refine ⟨?_, ?_, ?_, ?_, ?_, ?_⟩
  · rw [up_eq]
    by_cases q : j = s
    · rw [if_pos ⟨rfl, q⟩, if_pos q]
    · rw [if_neg (fun y => q y.2), if_neg q, up_n (by decide), up_n (by decide), nW_g (by decide) (by decide) (by decide), up_n (by decide)]
  · rw [up_n (by decide), up_n (by decide), up_eq]
    by_cases q : j = c
    · rw [if_pos ⟨rfl, q⟩, if_pos q]
    · rw [if_neg (fun y => q y.2), if_neg q, nW_g (by decide) (by decide) (by decide), up_n (by decide)]
  · rw [up_n (by decide), up_eq]
    by_cases q : j = c
    · rw [if_pos ⟨rfl, q⟩, if_pos q]
    · rw [if_neg (fun y => q y.2), if_neg q, up_n (by decide), nW_g (by decide) (by decide) (by decide), up_n (by decide)]
  · rw [up_n (by decide), up_n (by decide), up_n (by decide), nW_c (by decide) (by decide), e37]
    by_cases q : j = c
    · rw [if_pos q, if_pos q]
      omega
    · rw [if_neg q, if_neg q, up_eq, if_neg (fun y => q y.2)]
  · rw [up_n (by decide), up_n (by decide), up_n (by decide)]
    exact ww.1
  · rw [up_n (by decide), up_n (by decide), up_n (by decide)]
    exact ww.2
theorem tRg_fx (hNl : N.length ≤ 4) (h33 : 0 ≤ U 33 s ∧ U 33 s < 4) : FX w s U (tRg s N x p U) := by
  refine ⟨by rw [tRg_o (by decide)]; exact Int.le_refl _, by rw [tRg_o (by decide)]; exact Int.le_refl _, ?_, fun f j h1 h2 h3 h4 h5 h6 h7 h8 => ?_⟩
  · rw [(tRg_v s).1, if_pos rfl]
    omega
  · obtain ⟨v33, v35, v36, v37, v38, v39⟩ := tRg_v (s := s) (N := N) (x := x) (p := p) (U := U) j
    unfold exm at h8
    by_cases g : f = 33 ∨ f = 35 ∨ f = 36 ∨ f = 37 ∨ f = 38 ∨ f = 39
    · rcases g with g | g | g | g | g | g
      · rw [g] at h8 ⊢
        rw [v33, if_neg (fun e => h8 (Or.inl ⟨e, by decide⟩))]
      · rw [g] at h8 ⊢
        rw [v35, if_neg (fun e => h8 (Or.inr (Or.inr (Or.inl ⟨by decide, by omega, by omega, by omega⟩))))]
      · rw [g] at h8 ⊢
        rw [v36, if_neg (fun e => h8 (Or.inr (Or.inr (Or.inl ⟨by decide, by omega, by omega, by omega⟩))))]
      · rw [g] at h8 ⊢
        rw [v37, if_neg (fun e => h8 (Or.inr (Or.inr (Or.inl ⟨by decide, by omega, by omega, by omega⟩))))]
      · rw [g] at h8 ⊢
        rw [v38, if_neg (fun e => h8 (Or.inr (Or.inr (Or.inr (Or.inr (Or.inr ⟨by decide, by omega, by omega, by omega⟩))))))]
      · rw [g] at h8 ⊢
        rw [v39, if_neg (fun e => h8 (Or.inr (Or.inr (Or.inr (Or.inr (Or.inr ⟨by decide, by omega, by omega, by omega⟩))))))]
    · rw [tRg_o (by omega)]
/-- what the head of a catch changes -/
def XK (R : Nat → Nat) (l9 : Nat) (b k : Nat) : Prop := Xr (R 0) (R 2) b k ∨ (b = R 9 ∧ k = 99) ∨ (b = l9 ∧ k = 99)
/-- tags of a new catch -/
def Tca (T : Nat → Nat) (ca lk : Nat) (a : Nat) : Nat := if a = ca then 5 else if a = lk then 1 else T a
theorem GI_reg (g : GI R A T w s p0 v S U) (pr : PR w U) (qv : QV U) (w0 : 0 ≤ w ∧ w ≤ 1) (hsA : As w U s) (u20 : U 20 s = 9) (h33 : 0 ≤ U 33 s ∧ U 33 s < 4) (hNl : N.length ≤ 4) (t9 : T l9 = 4) (k9 : hK v.1 l9 = 4) (hca : hN v.1 ≤ ca) (hlk : hN v.1 ≤ lk) (nck : ca ≠ lk)
    (f : Fw (XK R l9) v v') (t' : PT v' (R 0) (R 1) (R 2) S') (h47 : p0 ≤ S' 47 0) (h55 : S' 55 = S 55) (h56 : S' 56 = S 56) (gb : L0.Perm (mPar U w)) (ml : ML v' (R 9) (insA (insA [] L0) (mNs U w N ++ (if (pO U x (U 22 s)).1 ≠ -1 then [(2, (p, -1))] else []))))
    (kc : hK v'.1 ca = 22) (c0 : hR v'.1 ca 0 = some (A 2 s)) (c1 : hR v'.1 ca 1 = some lk) (c2 : TXn v' (hR v'.1 ca 2) x) (c4 : hI v'.1 ca 4 = 0) (nl : NL v' (A 0) lk N.length (nK U w N) (nP N)) : GI R (Aec A (4 * s + U 33 s) ca) (Tca T ca lk) w s p0 v' S' (tRg s N x p U) := by
  generalize hc : 4 * s + U 33 s = c at *
  have h : FX w s U (tRg s N x p U) := tRg_fx hNl h33
  have e : ∀ f, (f ≠ 33 ∧ f ≠ 35 ∧ f ≠ 36 ∧ f ≠ 37 ∧ f ≠ 38 ∧ f ≠ 39) → tRg s N x p U f = U f := fun f hf => tRg_o hf
  have vv := fun j => tRg_v (s := s) (N := N) (x := x) (p := p) (U := U) j
  rw [hc] at vv
  have e19 : tRg s N x p U 19 w = U 19 w := by rw [e 19 (by decide)]
  have e20 := e 20 (by decide)
  have e22 := e 22 (by decide)
  have e25 := e 25 (by decide)
  have e26 := e 26 (by decide)
  have pq := pr.1
  have b19 := QV_b qv (f := 19) (c := 120) rfl rfl rfl w
  have b9 := QV_b qv (f := 9) (c := 12) rfl rfl rfl w
  have g' := g
  obtain ⟨g1, g2, g3, g4, g5, g6, ⟨g7, g8, g9⟩, _, gc, gd, ge, gf, gg, gh, gj⟩ := g'
  have n3 := g3.2.2.2
  have k0 := g1.w0.1
  have k2 := g1.w0.2.1
  have kR9 := g.k9
  obtain ⟨t8, tR9, t10, t11, t12, t13, t14⟩ := g6.2.2.2.2.2.2.1
  obtain ⟨m1, m2, m3, m4, m5, m6, m7, m8, m9, ma, mb⟩ := g6.2.2.2.2.2.2.2.1
  have tca : T ca = 0 := g5.2 ca hca
  have tlk : T lk = 0 := g5.2 lk hlk
  have cs : c / 4 = s := by omega
  have cm : c % 4 = U 33 s := by omega
  have kq : ∀ b k, XK R l9 b k → ((hK v.1 b = 2 ∨ hK v.1 b = 3) ∧ (3 ≤ k ∧ k ≤ 6 ∨ 14 ≤ k ∧ k ≤ 16)) ∨ (b = R 9 ∧ k = 99) ∨ (b = l9 ∧ k = 99) := fun b k y => by
    rcases y with (y | y) | y | y
    · exact Or.inl ⟨Or.inl (by rw [y.1]; exact k0), y.2⟩
    · exact Or.inl ⟨Or.inr (by rw [y.1]; exact k2), by omega⟩
    · exact Or.inr (Or.inl y)
    · exact Or.inr (Or.inr y)
  have nf : ∀ b k, hK v.1 b ≠ 2 → hK v.1 b ≠ 3 → hK v.1 b ≠ 4 → ¬ XK R l9 b k := fun b k h2 h3 h4 y => by
    rcases kq b k y with z | z | z
    · omega
    · rw [z.1] at h4
      exact h4 kR9
    · rw [z.1] at h4
      exact h4 k9
  have xz : XZ v T (hN v.1) (XK R l9) := fun b k y _ => by
    rcases kq b k y with z | z | z
    · omega
    · exact Or.inr (Or.inr (Or.inl ⟨z.2, by rw [z.1, tR9]; decide⟩))
    · exact Or.inr (Or.inr (Or.inl ⟨z.2, by rw [z.1, t9]; decide⟩))
  have x0 : ∀ k, 7 ≤ k ∧ k ≤ 13 ∨ k = 17 → ¬ XK R l9 (R 0) k := fun k hk y => by
    rcases kq _ k y with z | z | z
    · omega
    · omega
    · omega
  have nl3 : ∀ l, hK v.1 l = 4 → l ≠ R 9 → T l = 3 ∨ T l = 2 → ¬ XK R l9 l 99 := fun l kl h1 h2 y => by
    rcases kq _ _ y with z | z | z
    · omega
    · exact h1 z.1
    · rw [z.1, t9] at h2
      omega
  have tO : ∀ b, b ≠ ca → b ≠ lk → Tca T ca lk b = T b := fun b h1 h2 => by
    unfold Tca
    rw [if_neg h1, if_neg h2]
  have ae : AE w U A (Aec A c ca) T (Tca T ca lk) := ⟨fun _ _ => ⟨Aec_o (Or.inl (by decide)), Aec_o (Or.inl (by decide))⟩, fun _ _ => Aec_o (Or.inl (by decide)), fun d hd hr => Aec_o (Or.inr (fun q => by rw [q, cs, cm] at hr; omega)), Aec_f (by decide), Aec_f (by decide), fun b h0 _ => tO b (fun q => h0 (by rw [q]; exact tca)) (fun q => h0 (by rw [q]; exact tlk))⟩
  have kl' := nl.1
  have tg' : TG v' (Tca T ca lk) ∧ TZ v' (Tca T ca lk) := by
    have y := TG_fw f g5
    refine ⟨fun b h0 h1 h2 => ?_, fun b hb => ?_⟩
    · rw [tO b (fun q => h2 (by rw [q]; exact kc)) (fun q => h1 (by rw [q]; exact kl'))]
      exact y.1 b h0 h1 h2
    · have l1 := hK_lt kc (by decide)
      have l2 := hK_lt kl' (by decide)
      rw [tO b (by omega) (by omega)]
      exact y.2 b hb
  have so : ∀ j, stL (tRg s N x p U) w (fun k => decide (tRg s N x p U 20 k = j)) = stL U w (fun k => decide (U 20 k = j)) ++ [] := fun j => by
    rw [List.append_nil, e20]
    unfold stL
    rw [e19]
  have oo : stL (tRg s N x p U) w (isO (tRg s N x p U)) = stL U w (isO U) ++ [] := by
    rw [List.append_nil]
    have : ∀ k, As w U k → isO (tRg s N x p U) k = isO U k := fun k hk => by
      unfold isO
      rw [e20, e25, e22, pO_fx h pq qv w0.1 (pq.1 k hk).1]
    exact stL_fx h e19 (fun k hk _ => this k hk) (fun hk => this _ hk)
  have pn : ∀ j, pnd S U s j → pnd S' (tRg s N x p U) s j := fun j y => by
    unfold pnd at y ⊢
    rw [e 42 (by decide), h55, h56]
    exact y
  have on : ∀ b, opn S b → opn S' b := fun b y => by unfold opn at y ⊢; rw [h55, h56]; exact y
  have ig : ∀ b k, XK R l9 b k → hK v.1 b ≠ 8 ∧ hK v.1 b ≠ 9 := fun b k y => by
    rcases kq b k y with z | z | z
    · omega
    · rw [z.1, kR9]; decide
    · rw [z.1, k9]; decide
  have iss : ∀ d, isS (tRg s N x p U) w d = isS U w d := fun d => isS_same h pq qv w0.1 e19 e20 e25
  have isc : isS U w c = false := by
    unfold isS
    have : ∀ (n : Nat) (j : Int) (z : Bool), 0 ≤ j → j + n ≤ U 19 w → tFor (fun k a => a || (decide (U 20 (w * 120 + k) = 3) && decide ((pO U (U 25 (w * 120 + k)) (U 22 (w * 120 + k))).1 = c))) n j z = z := by
      intro n
      induction n with
      | zero => intro j z _ _; rfl
      | succ n ih =>
        intro j z j0 j1
        rw [tFor, ih _ _ (by omega) (by omega)]
        have hk : As w U (w * 120 + j) := ⟨by omega, by omega⟩
        have ne : (pO U (U 25 (w * 120 + j)) (U 22 (w * 120 + j))).1 ≠ c := fun q => by
          have y := pO_As pq qv w0.1 (x := U 25 (w * 120 + j)) (pq.1 _ hk).1 (by rw [q]; have := hsA.1; omega)
          rw [q, cs, cm] at y
          omega
        rw [decide_eq_false ne, Bool.and_false, Bool.or_false]
    exact this _ _ _ (Int.le_refl _) (by omega)
  have reg : ∀ d, As w U (d / 4) → d % 4 < tRg s N x p U 33 (d / 4) → d = c ∨ d % 4 < U 33 (d / 4) := fun d _ hr => by
    rw [(vv (d / 4)).1] at hr
    by_cases q : d / 4 = s
    · rw [if_pos q] at hr
      rw [q]
      omega
    · rw [if_neg q] at hr
      exact Or.inr hr
  have ltA : ∀ d, As w U (d / 4) → d % 4 < U 33 (d / 4) → A 4 d < hN v.1 := fun d h1 h2 => hK_lt (gg d h1 h2).1.1 (by decide)
  have ndc : ∀ d, d % 4 < U 33 (d / 4) → d ≠ c := fun d hr q => by rw [q, cs, cm] at hr; omega
  refine GI_mv (s := s) (z := hN v.1) g h pq qv w0 b9 b19.2 e19 ae f xz (Or.inr (Nat.le_refl _)) (fun k y => ?_) (x0 7 (by omega)) (x0 8 (by omega)) (by rw [(f.ff (hK_lt k0 (by decide)) (x0 9 (by omega))).1, h55]; exact g9) t' h47 tg' ?_ ⟨L0 ++ (mNs U w N ++ (if (pO U x (U 22 s)).1 ≠ -1 then [(2, (p, -1))] else [])), ?_, ?_⟩ (fun j hj hp => ?_) (fun b hb hx => ?_) (fun j hj hl => ?_) (fun d hd hr => ?_) (fun d1 d2 h1 r1 h2 r2 ee => ?_) ?_
  · have l1 : hK v.1 (hN v.1) = 0 := hK_ge (Nat.le_refl _)
    rcases kq _ k y with z | z | z
    · omega
    · rw [← z.1, l1] at kR9
      exact absurd kR9 (by decide)
    · rw [← z.1, l1] at k9
      exact absurd k9 (by decide)
  · refine GL_mv g6 ae f e19 k0 g2.2.2.1 kR9 (fun k hk => x0 k (by omega)) (nf _ _ (by rw [g2.2.2.1]; decide) (by rw [g2.2.2.1]; decide) (by rw [g2.2.2.1]; decide)) (nl3 _ g6.1.2.1 m1 (Or.inl t8)) [] [] [] (fun k hk => by simp at hk) (so 1) (so 9) oo ?_ ?_ ?_ ?_ ?_ (fun k _ _ => by rw [e26])
    · rw [(f.cc (hK_lt g6.2.1.2.1 (by decide)) (nl3 _ g6.2.1.2.1 (Ne.symm m7) (Or.inl t10))).1]
      simp
    · rw [(f.cc (hK_lt g6.2.2.2.1.2.1 (by decide)) (nl3 _ g6.2.2.2.1.2.1 (Ne.symm m9) (Or.inl t12))).1]
      simp
    · rw [(f.cc (hK_lt g6.2.2.2.2.1.2.1 (by decide)) (nl3 _ g6.2.2.2.2.1.2.1 (Ne.symm ma) (Or.inl t13))).1]
      simp
    · rw [List.map_nil, List.append_nil]
      exact IL_fw f (nl3 _ g6.2.2.1.2.1 (Ne.symm m8) (Or.inl t11)) ig g6.2.2.1.2
    · rw [List.map_nil, List.append_nil]
      exact IL_fw f (nl3 _ g6.2.2.2.2.2.1.2.1 (Ne.symm mb) (Or.inl t14)) ig g6.2.2.2.2.2.1.2
  · rw [insA_app]
    exact ml
  · have kk := fun y a => kO_fx h w0 n3 (x := y) (a := a)
    have pp := fun y => pO_fx h pq qv w0.1 (x := y) (pq.1 s hsA).1
    have m1 : (mPs (tRg s N x p U) w s).Perm (mPs U w s ++ (mNs U w N ++ (if (pO U x (U 22 s)).1 ≠ -1 then [(2, (p, -1))] else []))) := by
      unfold mPs
      rw [e20, u20, if_neg (by decide), if_neg (by decide), if_pos rfl, if_neg (by decide), if_neg (by decide), if_pos rfl, (vv s).1, if_pos rfl, show (U 33 s + 1).toNat = (U 33 s).toNat + 1 by omega, tCat_sn, show (0 : Int) + ((U 33 s).toNat : Int) = U 33 s by omega, hc]
      have old : tCat (fun i => (if (pO (tRg s N x p U) (tRg s N x p U 35 (4 * s + i)) (tRg s N x p U 22 s)).1 ≠ -1 then [((2 : Int), (tRg s N x p U 36 (4 * s + i), (-1 : Int)))] else []) ++ tCat (fun k => if cK (tRg s N x p U) w (4 * s + i) k = -1 then [((1 : Int), (tRg s N x p U 39 (4 * (4 * s + i) + k), (-1 : Int)))] else []) (tRg s N x p U 37 (4 * s + i)).toNat 0) (U 33 s).toNat 0 = tCat (fun i => (if (pO U (U 35 (4 * s + i)) (U 22 s)).1 ≠ -1 then [((2 : Int), (U 36 (4 * s + i), (-1 : Int)))] else []) ++ tCat (fun k => if cK U w (4 * s + i) k = -1 then [((1 : Int), (U 39 (4 * (4 * s + i) + k), (-1 : Int)))] else []) (U 37 (4 * s + i)).toNat 0) (U 33 s).toNat 0 := by
        refine tCat_congr _ _ (fun i i0 i1 => ?_)
        have v1 := vv (4 * s + i)
        have a35 : tRg s N x p U 35 (4 * s + i) = U 35 (4 * s + i) := by rw [v1.2.1, if_neg (by omega)]
        have a36 : tRg s N x p U 36 (4 * s + i) = U 36 (4 * s + i) := by rw [v1.2.2.1, if_neg (by omega)]
        have a37 : tRg s N x p U 37 (4 * s + i) = U 37 (4 * s + i) := by rw [v1.2.2.2.1, if_neg (by omega)]
        rw [a35, a36, a37, e22, pp]
        congr 1
        have b37 := QV_b qv (f := 37) (c := 4) rfl rfl rfl (4 * s + i)
        refine tCat_congr _ _ (fun k k0 k1 => ?_)
        have v2 := vv (4 * (4 * s + i) + k)
        have a38 : tRg s N x p U 38 (4 * (4 * s + i) + k) = U 38 (4 * (4 * s + i) + k) := by rw [v2.2.2.2.2.1, if_neg (by omega)]
        have a39 : tRg s N x p U 39 (4 * (4 * s + i) + k) = U 39 (4 * (4 * s + i) + k) := by rw [v2.2.2.2.2.2, if_neg (by omega)]
        unfold cK
        rw [a38, a39, kk]
      rw [old]
      refine List.Perm.append_left _ ?_
      have v1 := vv c
      have a35 : tRg s N x p U 35 c = x := by rw [v1.2.1, if_pos rfl]
      have a36 : tRg s N x p U 36 c = p := by rw [v1.2.2.1, if_pos rfl]
      have a37 : tRg s N x p U 37 c = N.length := by rw [v1.2.2.2.1, if_pos rfl]
      rw [a35, a36, a37, e22, pp]
      have kin : tCat (fun k => if cK (tRg s N x p U) w c k = -1 then [((1 : Int), (tRg s N x p U 39 (4 * c + k), (-1 : Int)))] else []) ((N.length : Int)).toNat 0 = mNs U w N := by
        rw [← mNs_cat U w N, show ((N.length : Int)).toNat = N.length by omega]
        refine tCat_congr _ _ (fun k k0 k1 => ?_)
        have v2 := vv (4 * c + k)
        have a38 : tRg s N x p U 38 (4 * c + k) = (N.getD k.toNat (0, 0)).1 := by rw [v2.2.2.2.2.1, if_pos (by omega), show (4 * c + k - 4 * c).toNat = k.toNat by omega]
        have a39 : tRg s N x p U 39 (4 * c + k) = (N.getD k.toNat (0, 0)).2 := by rw [v2.2.2.2.2.2, if_pos (by omega), show (4 * c + k - 4 * c).toNat = k.toNat by omega]
        unfold cK
        rw [a38, a39, kk]
      rw [kin]
      exact List.perm_append_comm
    have := mPar_px (E := mNs U w N ++ (if (pO U x (U 22 s)).1 ≠ -1 then [(2, (p, -1))] else [])) h pq qv w0 n3 b9 e19 hsA m1
    exact (gb.append_right _).trans this.symm
  · exact Or.inr ⟨fun q => hp (Or.inl q), fun y => hp (pn j y)⟩
  · refine Or.inr ⟨?_, fun y => hx (on b y)⟩
    unfold Ab at hb ⊢
    rw [e 40 (by decide)] at hb
    exact hb
  · rw [e20] at hl
    have lb := gf j hj hl
    refine LB_keep ae f hj lb (nf _ _ (by rw [lb.1]; decide) (by rw [lb.1]; decide) (by rw [lb.1]; decide)) (nl3 _ lb.2.2.1 (fun q => by have := lb.2.2.2.1; rw [q, tR9] at this; exact absurd this (by decide)) (Or.inr lb.2.2.2.1)) ?_
    exact stL_fx h e19 (fun k hk _ => by rw [e20, tgt_fx h pq hk]) (fun hk => by rw [e20, tgt_fx h pq hk])
  · rcases reg d hd hr with q | q
    · rw [q, Aec_4, iss, isc]
      refine ⟨Or.inl ⟨by rw [Aec_4]; exact kc, by rw [Aec_4]; unfold Tca; rw [if_pos rfl], by rw [Aec_4, cs, Aec_o (Or.inl (by decide))]; exact c0, by rw [Aec_4, (vv c).2.1, if_pos rfl]; exact c2, lk, by rw [Aec_4]; exact c1, by unfold Tca; rw [if_neg (Ne.symm nck), if_pos rfl], ?_⟩, by rw [c4]; rfl, fun hp => absurd (Or.inl cs) hp⟩
      rw [(vv c).2.2.2.1, if_pos rfl, Aec_f (by decide)]
      refine NL_congr nl (fun i i0 i1 => ?_)
      have v2 := vv (4 * c + i)
      have a38 : tRg s N x p U 38 (4 * c + i) = (N.getD i.toNat (0, 0)).1 := by rw [v2.2.2.2.2.1, if_pos (by omega), show (4 * c + i - 4 * c).toNat = i.toNat by omega]
      have a39 : tRg s N x p U 39 (4 * c + i) = (N.getD i.toNat (0, 0)).2 := by rw [v2.2.2.2.2.2, if_pos (by omega), show (4 * c + i - 4 * c).toNat = i.toNat by omega]
      unfold cK
      rw [a38, a39, kO_fx h w0 n3]
      exact ⟨rfl, rfl⟩
    · obtain ⟨y1, y2, y3⟩ := gg d hd q
      have qf := fun j => f.ff (k := j) (hK_lt y1.1 (by decide)) (nf _ _ (by rw [y1.1]; decide) (by rw [y1.1]; decide) (by rw [y1.1]; decide))
      rw [Aec_o (Or.inr (ndc d q))]
      refine ⟨Or.inr q, ?_, fun hp => ?_⟩
      · rw [(qf 4).1, y2, iss]
      · rw [(qf 3).2.2, e 34 (by decide), Aec_o (Or.inl (by decide))]
        exact y3 (fun y => hp (pn _ y))
  · rcases reg d1 h1 r1 with q1 | q1
    · rcases reg d2 h2 r2 with q2 | q2
      · rw [q1, q2]
      · rw [q1, Aec_4, Aec_o (Or.inr (ndc d2 q2))] at ee
        have := ltA d2 h2 q2
        omega
    · rcases reg d2 h2 r2 with q2 | q2
      · rw [q2, Aec_4, Aec_o (Or.inr (ndc d1 q1))] at ee
        have := ltA d1 h1 q1
        omega
      · rw [Aec_o (Or.inr (ndc d1 q1)), Aec_o (Or.inr (ndc d2 q2))] at ee
        exact gh d1 d2 h1 q1 h2 q2 ee
  · rw [e20, Aec_f (by decide)]
    exact gj
end REG
