/-! COMPONENT, 60: run: names behind it *-/
section RNS
variable {r a l : Nat} {h : am_H} {R : Nat → Nat} {A Ah : Nat → Int → Nat} {T Th : Nat → Nat} {w s p0 sp : Int} {v v' vh : vT} {S S' Uh U : tSt} {o : Option Nat} {N : List (Int × Int)} {L0 : List tMi}
theorem fail_st (si : SI S) (tk : TK S) (s52 : S 52 0 = -1) : tFail S 52 0 ≠ -1 ∧ SI (tFail S) ∧ TK (tFail S) ∧ tFail S 55 = S 55 ∧ tFail S 56 = S 56 ∧ tFail S 48 = S 48 ∧ tFail S 47 0 = S 47 0 := by
  have y := Tks_fail si tk
  have s49 := si.2.1
  refine ⟨by rw [fail_52 s52]; omega, y.1, y.2.1, ?_, ?_, ?_, ?_⟩
  · unfold tFail; rw [up_n (by decide)]
  · unfold tFail; rw [up_n (by decide)]
  · unfold tFail; rw [up_n (by decide)]
  · unfold tFail; rw [up_n (by decide)]
/-- a list of names: how the tokens stand behind it -/
theorem tLs_st : ∀ (d n : Nat) (S : tSt), n + d = 5 → n ≤ 4 → SI S → TK S → S 52 0 = -1 → ((tLs sp n d S).1 = true → (tLs sp n d S).2.1 52 0 = -1) ∧ (¬ (tLs sp n d S).1 = true → (tLs sp n d S).2.1 52 0 ≠ -1) ∧ SI (tLs sp n d S).2.1 ∧ TK (tLs sp n d S).2.1 ∧ (tLs sp n d S).2.1 55 = S 55 ∧ (tLs sp n d S).2.1 56 = S 56 ∧ (tLs sp n d S).2.1 48 = S 48 ∧ S 47 0 ≤ (tLs sp n d S).2.1 47 0 ∧ (tLs sp n d S).2.2.length + n ≤ 4 := by
  intro d
  induction d with
  | zero => intro n S e n4; omega
  | succ d ih =>
    intro n S e n4 si tk s52
    have si1 := SI_adv si
    have tk1 := TK_adv si.1
    have e52 : tAdv S 52 0 = -1 := by rw [tAdv_52]; exact s52
    have a47 := tAdv_47 si
    obtain ⟨f1, f2, f3, f4, f5, f6, f7⟩ := fail_st si1 tk1 e52
    have g4 : tFail (tAdv S) 55 = S 55 := by rw [f4, tAdv_55.1]
    have g5 : tFail (tAdv S) 56 = S 56 := by rw [f5, tAdv_55.2.1]
    have g6 : tFail (tAdv S) 48 = S 48 := by rw [f6, tAdv_55.2.2.1]
    have g7 : S 47 0 ≤ tFail (tAdv S) 47 0 := by rw [f7]; exact a47.1
    rw [tLs]
    by_cases h4 : n = 4
    · rw [if_pos h4]
      exact ⟨fun y => Bool.noConfusion y, fun _ => f1, f2, f3, g4, g5, g6, g7, by show 0 + n ≤ 4; omega⟩
    · rw [if_neg h4]
      by_cases hn : tIsN (tAdv S) = true
      · obtain ⟨n1, n2, n55, n56, n48, n52, n47⟩ := nm_name si1 tk1 hn
        have h55 : tName (tAdv S) 55 = S 55 := by rw [n55, tAdv_55.1]
        have h56 : tName (tAdv S) 56 = S 56 := by rw [n56, tAdv_55.2.1]
        have h48 : tName (tAdv S) 48 = S 48 := by rw [n48, tAdv_55.2.2.1]
        have h52 : tName (tAdv S) 52 0 = -1 := by rw [n52]; exact e52
        rw [if_pos hn]
        by_cases hs : tName (tAdv S) 51 0 = sp
        · rw [if_pos hs]
          obtain ⟨i1, i2, i3, i4, i5, i6, i7, i8, i9⟩ := ih (n + 1) (tName (tAdv S)) (by omega) (by omega) n1 n2 (by rw [n52]; exact e52)
          refine ⟨i1, i2, i3, i4, i5.trans h55, i6.trans h56, i7.trans h48, ?_, ?_⟩
          · have := a47.1
            exact Int.le_trans (Int.le_trans this n47) i8
          · show _ + 1 + n ≤ 4
            omega
        · rw [if_neg hs]
          exact ⟨fun _ => h52, fun y => absurd rfl y, n1, n2, h55, h56, h48, Int.le_trans a47.1 n47, by show 1 + n ≤ 4; omega⟩
      · rw [if_neg hn]
        exact ⟨fun y => Bool.noConfusion y, fun _ => f1, f2, f3, g4, g5, g6, g7, by show 0 + n ≤ 4; omega⟩
theorem mNs_cat (U : tSt) (w : Int) : ∀ N : List (Int × Int), tCat (fun k => if kO U w (N.getD k.toNat (0, 0)).1 (N.getD k.toNat (0, 0)).2 = -1 then [((1 : Int), ((N.getD k.toNat (0, 0)).2, (-1 : Int)))] else []) N.length 0 = mNs U w N := by
  intro N
  have key : ∀ (M P : List (Int × Int)), tCat (fun k => if kO U w ((P ++ M).getD k.toNat (0, 0)).1 ((P ++ M).getD k.toNat (0, 0)).2 = -1 then [((1 : Int), (((P ++ M).getD k.toNat (0, 0)).2, (-1 : Int)))] else []) M.length (P.length : Int) = mNs U w M := by
    intro M
    induction M with
    | nil => intro P; rfl
    | cons q M ih =>
      intro P
      have y := ih (P ++ [q])
      rw [List.append_assoc, List.length_append, List.length_singleton] at y
      rw [List.length_cons, tCat_s, mNs]
      have g : (P ++ q :: M).getD ((P.length : Int)).toNat (0, 0) = q := by
        rw [show ((P.length : Int)).toNat = P.length by omega, List.getD_eq_getElem?_getD, List.getElem?_append_right (Nat.le_refl _), Nat.sub_self]
        rfl
      rw [g]
      congr 1
  exact key N []
/-- what a list of names behind a run may change -/
def XR (R : Nat → Nat) (a : Nat) (b k : Nat) : Prop := Xm (R 0) (R 2) (R 9) b k ∨ (b = a ∧ k = 6)
theorem nW_f {f : Nat} (h1 : f ≠ 30) (h2 : f ≠ 31) (h3 : f ≠ 32) : nW 30 31 32 s N U f = U f := by
  funext j
  exact nW_o N U f j h1 h2 h3
theorem nW_fx (hNl : N.length ≤ 4) (u30 : U 30 s = 0) : FX w s U (nW 30 31 32 s N U) := by
  refine ⟨by rw [nW_f (by decide) (by decide) (by decide)]; exact Int.le_refl _, by rw [nW_f (by decide) (by decide) (by decide)]; exact Int.le_refl _, by rw [nW_f (by decide) (by decide) (by decide)]; exact Int.le_refl _, fun f j h1 h2 h3 h4 h5 h6 h7 h8 => ?_⟩
  have ww := nW_w (x := s) (fc := 30) (fw := 31) (fp := 32) (by decide) (by decide) (by decide) N U j
  by_cases g0 : f = 30
  · rw [g0] at h8 ⊢
    rw [nW_c (by decide) (by decide), if_neg]
    intro e
    exact h8 (Or.inl ⟨e, Or.inr (Or.inl (by decide))⟩)
  · by_cases g1 : f = 31
    · rw [g1] at h8 ⊢
      rw [ww.1, if_neg]
      intro e
      exact h8 (Or.inr (Or.inl ⟨Or.inl rfl, by omega, by omega⟩))
    · by_cases g2 : f = 32
      · rw [g2] at h8 ⊢
        rw [ww.2, if_neg]
        intro e
        exact h8 (Or.inr (Or.inl ⟨Or.inr rfl, by omega, by omega⟩))
      · rw [nW_f g0 g1 g2]
theorem nW_v (u30 : U 30 s = 0) {i : Int} (i0 : 0 ≤ i) (i1 : i < N.length) : nW 30 31 32 s N U 31 (4 * s + i) = (N.getD i.toNat (0, 0)).1 ∧ nW 30 31 32 s N U 32 (4 * s + i) = (N.getD i.toNat (0, 0)).2 := by
  have ww := nW_w (x := s) (fc := 30) (fw := 31) (fp := 32) (by decide) (by decide) (by decide) N U (4 * s + i)
  rw [u30, if_pos (by omega), if_pos (by omega), show (4 * s + i - (4 * s + 0)).toNat = i.toNat by omega] at ww
  exact ww
theorem GI_run (g : GI R A T w s p0 v S U) (pr : PR w U) (qv : QV U) (w0 : 0 ≤ w ∧ w ≤ 1) (hsA : As w U s) (u20 : U 20 s = 10) (u30 : U 30 s = 0) (hNl : N.length ≤ 4) (ka : hK v.1 (A 2 s) = 37)
    (f : Fw (XR R (A 2 s)) v v') (t' : PT v' (R 0) (R 1) (R 2) S') (h47 : p0 ≤ S' 47 0) (h55 : S' 55 = S 55) (h56 : S' 56 = S 56) (hl : hN v.1 ≤ l) (kl : hK v'.1 l = 4) (gb : L0.Perm (mPar U w)) (ml : ML v' (R 9) (insA (insA [] L0) (mNs U w N))) : GI R A (Tst T l 1) w s p0 v' S' (nW 30 31 32 s N U) := by
  have h : FX w s U (nW 30 31 32 s N U) := nW_fx hNl u30
  have e : ∀ f, f ≠ 30 → f ≠ 31 → f ≠ 32 → nW 30 31 32 s N U f = U f := fun f h1 h2 h3 => nW_f h1 h2 h3
  have v30 : nW 30 31 32 s N U 30 s = N.length := by rw [nW_c (by decide) (by decide), if_pos rfl, u30]; omega
  have e20 := e 20 (by decide) (by decide) (by decide)
  have e22 := e 22 (by decide) (by decide) (by decide)
  have e25 := e 25 (by decide) (by decide) (by decide)
  have e26 := e 26 (by decide) (by decide) (by decide)
  have e33 := e 33 (by decide) (by decide) (by decide)
  have e19 : nW 30 31 32 s N U 19 w = U 19 w := by rw [e 19 (by decide) (by decide) (by decide)]
  have pq := pr.1
  have b19 := QV_b qv (f := 19) (c := 120) rfl rfl rfl w
  have b9 := QV_b qv (f := 9) (c := 12) rfl rfl rfl w
  have g' := g
  obtain ⟨g1, g2, g3, g4, g5, g6, ⟨g7, g8, g9⟩, _, gc, gd, ge, gf, gg, gh, gj⟩ := g'
  have n3 := g3.2.2.2
  have k0 := g1.w0.1
  have k2 := g1.w0.2.1
  have k9 := g.k9
  obtain ⟨t8, t9, t10, t11, t12, t13, t14⟩ := g6.2.2.2.2.2.2.1
  obtain ⟨m1, m2, m3, m4, m5, m6, m7, m8, m9, ma, mb⟩ := g6.2.2.2.2.2.2.2.1
  have tl : T l = 0 := g5.2 l hl
  have kq : ∀ c k, XR R (A 2 s) c k → ((hK v.1 c = 2 ∨ hK v.1 c = 3) ∧ (3 ≤ k ∧ k ≤ 6 ∨ k = 14)) ∨ (c = R 9 ∧ k = 99) ∨ (c = A 2 s ∧ k = 6) := fun c k y => by
    rcases y with ((y | y) | y) | y
    · exact Or.inl ⟨Or.inl (by rw [y.1]; exact k0), y.2⟩
    · exact Or.inl ⟨Or.inr (by rw [y.1]; exact k2), by omega⟩
    · exact Or.inr (Or.inl y)
    · exact Or.inr (Or.inr y)
  have nf : ∀ c k, hK v.1 c ≠ 2 → hK v.1 c ≠ 3 → hK v.1 c ≠ 4 → hK v.1 c ≠ 37 → ¬ XR R (A 2 s) c k := fun c k h2 h3 h4 h5 y => by
    rcases kq c k y with z | z | z
    · omega
    · rw [z.1] at h4
      exact h4 k9
    · rw [z.1] at h5
      exact h5 ka
  have xz : XZ v T (A 2 s) (XR R (A 2 s)) := fun c k y _ => by
    rcases kq c k y with z | z | z
    · omega
    · exact Or.inr (Or.inr (Or.inl ⟨z.2, by rw [z.1, t9]; decide⟩))
    · exact Or.inr (Or.inr (Or.inr (Or.inr ⟨z.1, by rw [z.1, ka]; decide⟩)))
  have x0 : ∀ k, 7 ≤ k ∧ k ≤ 13 ∨ k = 17 → ¬ XR R (A 2 s) (R 0) k := fun k hk y => by
    rcases kq _ k y with z | z | z
    · omega
    · omega
    · omega
  have nl : ∀ l, hK v.1 l = 4 → l ≠ R 9 → ¬ XR R (A 2 s) l 99 := fun l kl h1 y => by
    rcases kq _ _ y with z | z | z
    · omega
    · exact h1 z.1
    · omega
  have ae : AE w U A A T (Tst T l 1) := ⟨fun _ _ => ⟨rfl, rfl⟩, fun _ _ => rfl, fun _ _ _ => rfl, rfl, rfl, fun c h0 _ => Tst_o (fun q => h0 (by rw [q]; exact tl))⟩
  have so : ∀ j, stL (nW 30 31 32 s N U) w (fun k => decide (nW 30 31 32 s N U 20 k = j)) = stL U w (fun k => decide (U 20 k = j)) ++ [] := fun j => by
    rw [List.append_nil, e20]
    unfold stL
    rw [e19]
  have oo : stL (nW 30 31 32 s N U) w (isO (nW 30 31 32 s N U)) = stL U w (isO U) ++ [] := by
    rw [List.append_nil]
    have : ∀ k, As w U k → isO (nW 30 31 32 s N U) k = isO U k := fun k hk => by
      unfold isO
      rw [e20, e25, e22, pO_fx h pq qv w0.1 (pq.1 k hk).1]
    exact stL_fx h e19 (fun k hk _ => this k hk) (fun hk => this _ hk)
  have pn : ∀ j, pnd S U s j → pnd S' (nW 30 31 32 s N U) s j := fun j y => by
    unfold pnd at y ⊢
    rw [e 42 (by decide) (by decide) (by decide), h55, h56]
    exact y
  have on : ∀ b, opn S b → opn S' b := fun b y => by unfold opn at y ⊢; rw [h55, h56]; exact y
  have ig : ∀ c k, XR R (A 2 s) c k → hK v.1 c ≠ 8 ∧ hK v.1 c ≠ 9 := fun c k y => by
    rcases kq c k y with z | z | z
    · omega
    · rw [z.1, k9]; decide
    · rw [z.1, ka]; decide
  refine GI_mv (s := s) (z := A 2 s) g h pq qv w0 b9 b19.2 e19 ae f xz (Or.inl ⟨rfl, hsA⟩) (fun k y => ?_) (x0 7 (by omega)) (x0 8 (by omega)) (by rw [(f.ff (hK_lt k0 (by decide)) (x0 9 (by omega))).1, h55]; exact g9) t' h47 (Tst_g (TG_fw f g5) kl) ?_ ⟨L0 ++ mNs U w N, ?_, ?_⟩ (fun j hj hp => ?_) (fun c hc hx => ?_) (fun j hj hl => ?_) (fun c hc hr => ?_) ?_ ?_
  · rcases kq _ k y with z | z | z
    · omega
    · rw [z.1, k9] at ka
      exact absurd ka (by decide)
    · omega
  · refine GL_mv g6 ae f e19 k0 g2.2.2.1 k9 (fun k hk => x0 k (by omega)) (nf _ _ (by rw [g2.2.2.1]; decide) (by rw [g2.2.2.1]; decide) (by rw [g2.2.2.1]; decide) (by rw [g2.2.2.1]; decide)) (nl _ g6.1.2.1 m1) [] [] [] (fun k hk => by simp at hk) (so 1) (so 9) oo ?_ ?_ ?_ ?_ ?_ (fun k _ _ => by rw [e26])
    · rw [(f.cc (hK_lt g6.2.1.2.1 (by decide)) (nl _ g6.2.1.2.1 (Ne.symm m7))).1]
      simp
    · rw [(f.cc (hK_lt g6.2.2.2.1.2.1 (by decide)) (nl _ g6.2.2.2.1.2.1 (Ne.symm m9))).1]
      simp
    · rw [(f.cc (hK_lt g6.2.2.2.2.1.2.1 (by decide)) (nl _ g6.2.2.2.2.1.2.1 (Ne.symm ma))).1]
      simp
    · rw [List.map_nil, List.append_nil]
      exact IL_fw f (nl _ g6.2.2.1.2.1 (Ne.symm m8)) ig g6.2.2.1.2
    · rw [List.map_nil, List.append_nil]
      exact IL_fw f (nl _ g6.2.2.2.2.2.1.2.1 (Ne.symm mb)) ig g6.2.2.2.2.2.1.2
  · rw [insA_app]
    exact ml
  · have m0 : mPs U w s = [] := by
      unfold mPs
      rw [u20, u30]
      rfl
    have m1 : mPs (nW 30 31 32 s N U) w s = mNs U w N := by
      unfold mPs
      rw [e20, u20, if_neg (by decide), if_neg (by decide), if_neg (by decide), if_pos rfl, v30, ← mNs_cat U w N]
      refine tCat_congr _ _ (fun k k0 k1 => ?_)
      obtain ⟨y1, y2⟩ := nW_v (N := N) (s := s) u30 k0 (by omega)
      rw [y1, y2, kO_fx h w0 n3]
    have := mPar_px (E := mNs U w N) h pq qv w0 n3 b9 e19 hsA (by rw [m0, m1]; exact List.Perm.refl _)
    exact (gb.append_right _).trans this.symm
  · exact Or.inr ⟨fun q => hp (Or.inl q), fun y => hp (pn j y)⟩
  · refine Or.inr ⟨?_, fun y => hx (on c y)⟩
    unfold Ab at hc ⊢
    rw [e 40 (by decide) (by decide) (by decide)] at hc
    exact hc
  · rw [e20] at hl
    have lb := gf j hj hl
    refine LB_keep ae f hj lb (nf _ _ (by rw [lb.1]; decide) (by rw [lb.1]; decide) (by rw [lb.1]; decide) (by rw [lb.1]; decide)) (nl _ lb.2.2.1 (fun q => by have := lb.2.2.2.1; rw [q, t9] at this; exact absurd this (by decide))) ?_
    exact stL_fx h e19 (fun k hk _ => by rw [e20, tgt_fx h pq hk]) (fun hk => by rw [e20, tgt_fx h pq hk])
  · rw [e33] at hr
    obtain ⟨c1, c2, c3⟩ := gg c hc hr
    have q := fun j => f.ff (k := j) (hK_lt c1.1 (by decide)) (nf _ _ (by rw [c1.1]; decide) (by rw [c1.1]; decide) (by rw [c1.1]; decide) (by rw [c1.1]; decide))
    refine ⟨Or.inr hr, ?_, fun hp => ?_⟩
    · rw [(q 4).1, c2, isS_same h pq qv w0.1 e19 e20 e25]
    · rw [(q 3).2.2, e 34 (by decide) (by decide) (by decide)]
      exact c3 (fun y => hp (pn _ y))
  · rw [e33]
    exact gh
  · rw [e20]
    exact gj
end RNS
