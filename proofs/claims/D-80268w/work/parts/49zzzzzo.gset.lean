/-! COMPONENT, 56: set: the invariant, from head to head *-/
section GSE
variable {r a : Nat} {h : am_H} {R : Nat → Nat} {A Ah : Nat → Int → Nat} {T Th : Nat → Nat} {w s p0 x p cc : Int} {v v' vh : vT} {S S' Uh U U' : tSt} {o : Option Nat} {ou : Bool} {L0 : List tMi} {Q : am_O → am_H → Prop} {l2 l4 l5 l6 l7 l8 l9 l10 l11 l12 : Option am_V}
theorem isS_l {c : Int} (h : FX w s U U') (pq : PQ w U) (qv : QV U) (w0 : 0 ≤ w) (e19 : U' 19 w = U 19 w) (n1 : 1 ≤ U 19 w) (hs : s = w * 120 + (U 19 w - 1)) (k1 : U 20 s ≠ 3) (k2 : U' 20 s = 3) : isS U' w c = (isS U w c || decide ((pO U' (U' 25 s) (U' 22 s)).1 = c)) := by
  unfold isS
  rw [e19, show (U 19 w).toNat = (U 19 w - 1).toNat + 1 by omega, tFor_sn, tFor_sn, show (0 : Int) + ((U 19 w - 1).toNat : Int) = U 19 w - 1 by omega, ← hs, k2, decide_eq_true rfl, decide_eq_false k1, Bool.true_and, Bool.false_and, Bool.or_false]
  congr 1
  refine tFor_cg _ _ _ (fun k z k0 k1' => ?_)
  have hsk : As w U (w * 120 + k) := ⟨by omega, by omega⟩
  have ne : w * 120 + k ≠ s := by omega
  rw [h.fs (f := 20) hsk (by decide) (by decide) (by decide) (Or.inl ne), h.fs (f := 22) hsk (by decide) (by decide) (by decide) (Or.inl ne), h.fs (f := 25) hsk (by decide) (by decide) (by decide) (Or.inl ne), pO_fx h pq qv w0 (pq.1 _ hsk).1]
theorem GI_set (g : GI R A T w s p0 v S U) (pr : PR w U) (qv : QV U) (w0 : 0 ≤ w ∧ w ≤ 1) (hs : s = w * 120 + (U 19 w - 1)) (n1 : 1 ≤ U 19 w) (u20 : U 20 s = 0) (u33 : U 33 s = 0) (ka : hK v.1 (A 2 s) = 30) (k5 : hI v.1 (A 2 s) 5 = iI 3) (ec : (pO U x (U 22 s)).1 = cc) (eo : (pO U x (U 22 s)).2 = ou)
    (f : Fw (XU R (A 2 s) (fun b => cc ≠ -1 ∧ b = A 4 cc)) v v') (t' : PT v' (R 0) (R 1) (R 2) S') (h47 : p0 ≤ S' 47 0) (h55 : S' 55 = S 55) (h56 : S' 56 = S 56) (r6 : hR v'.1 (A 2 s) 6 = optA (A 4) cc) (i4 : cc ≠ -1 → hI v'.1 (A 4 cc) 4 = iI 1)
    (gb : L0.Perm (mPar U w)) (ml : ML v' (R 9) (insA (insA [] L0) (mZt U p cc ou))) : GI R A T w (-1) p0 v' S' (tNr s 3 x p U) := by
  have h : FX w s U (tNr s 3 x p U) := tNr_fx
  have e : ∀ f, f ≠ 20 → f ≠ 25 → f ≠ 26 → tNr s 3 x p U f = U f := fun f h1 h2 h3 => tNr_o h1 h2 h3
  obtain ⟨v20, v25, v26⟩ := tNr_v (s := s) (k := 3) (x := x) (p := p) (U := U)
  have e19 : tNr s 3 x p U 19 w = U 19 w := by rw [e 19 (by decide) (by decide) (by decide)]
  have e22 : tNr s 3 x p U 22 = U 22 := e 22 (by decide) (by decide) (by decide)
  have hsA : As w U s := ⟨by omega, by omega⟩
  have pq := pr.1
  have b19 := QV_b qv (f := 19) (c := 120) rfl rfl rfl w
  have b9 := QV_b qv (f := 9) (c := 12) rfl rfl rfl w
  have g' := g
  obtain ⟨g1, g2, g3, g4, g5, g6, ⟨g7, g8, g9⟩, _, gc, gd, ge, gf, gg, gh, gj⟩ := g'
  have n3 := g3.2.2.2
  have oS : ∀ f j, 20 ≤ f → f ≤ 30 ∨ f = 33 → f ≠ 24 → As w U j → j ≠ s → tNr s 3 x p U f j = U f j := fun f j h1 h2 h3 hj hn => h.fs hj h1 h2 h3 (Or.inl hn)
  have o20 : ∀ j, As w U j → j ≠ s → tNr s 3 x p U 20 j = U 20 j := fun j hj hn => oS 20 j (by decide) (by decide) (by decide) hj hn
  have lp : ∀ j, As w U j → tNr s 3 x p U 20 j = 5 ∨ tNr s 3 x p U 20 j = 6 → j ≠ s ∧ (U 20 j = 5 ∨ U 20 j = 6) := fun j hj hl => by
    by_cases z : j = s
    · rw [z, v20] at hl
      omega
    · rw [o20 j hj z] at hl
      exact ⟨z, hl⟩
  have po : ∀ y, pO (tNr s 3 x p U) y (U 22 s) = pO U y (U 22 s) := fun y => pO_fx h pq qv w0.1 (pq.1 s hsA).1
  have k0 := g1.w0.1
  have k2 := g1.w0.2.1
  have k9 := g.k9
  have cR : cc ≠ -1 → As w U (cc / 4) ∧ cc % 4 < U 33 (cc / 4) ∧ 0 ≤ cc := fun q => by
    have y := pO_As pq qv w0.1 (x := x) (pq.1 s hsA).1 (by rw [ec]; exact q)
    rw [ec] at y
    exact y
  have cF : cc ≠ -1 → CF v A T U w cc := fun q => (gg cc (cR q).1 (cR q).2.1).1
  obtain ⟨t8, t9, t10, t11, t12, t13, t14⟩ := g6.2.2.2.2.2.2.1
  obtain ⟨m1, m2, m3, m4, m5, m6, m7, m8, m9, ma, mb⟩ := g6.2.2.2.2.2.2.2.1
  have kx : ∀ c k, XU R (A 2 s) (fun b => cc ≠ -1 ∧ b = A 4 cc) c k → (c = R 0 ∧ (3 ≤ k ∧ k ≤ 6 ∨ 14 ≤ k ∧ k ≤ 16)) ∨ (c = R 2 ∧ k = 6) ∨ (c = R 9 ∧ k = 99) ∨ (c = A 2 s ∧ k = 6) ∨ (k = 4 ∧ cc ≠ -1 ∧ c = A 4 cc) := fun c k y => by
    rcases y with (y | y) | y | y | y
    · exact Or.inl y
    · exact Or.inr (Or.inl y)
    · exact Or.inr (Or.inr (Or.inl y))
    · exact Or.inr (Or.inr (Or.inr (Or.inl y)))
    · exact Or.inr (Or.inr (Or.inr (Or.inr ⟨y.2, y.1.1, y.1.2⟩)))
  have kq : ∀ c k, XU R (A 2 s) (fun b => cc ≠ -1 ∧ b = A 4 cc) c k → (hK v.1 c = 2 ∨ hK v.1 c = 3) ∧ k ≠ 99 ∨ (hK v.1 c = 4 ∧ T c = 3 ∧ k = 99 ∧ c = R 9) ∨ (c = A 2 s ∧ k = 6) ∨ (hK v.1 c = 22 ∧ T c = 5 ∧ k = 4 ∧ cc ≠ -1 ∧ c = A 4 cc) := fun c k y => by
    rcases kx c k y with z | z | z | z | z
    · exact Or.inl ⟨Or.inl (by rw [z.1]; exact k0), by omega⟩
    · exact Or.inl ⟨Or.inr (by rw [z.1]; exact k2), by omega⟩
    · exact Or.inr (Or.inl ⟨by rw [z.1]; exact k9, by rw [z.1]; exact t9, z.2, z.1⟩)
    · exact Or.inr (Or.inr (Or.inl z))
    · have cf := cF z.2.1
      exact Or.inr (Or.inr (Or.inr ⟨by rw [z.2.2]; exact cf.1, by rw [z.2.2]; exact cf.2.1, z.1, z.2⟩))
  have nf : ∀ c k, hK v.1 c ≠ 2 → hK v.1 c ≠ 3 → hK v.1 c ≠ 4 → hK v.1 c ≠ 30 → (hK v.1 c = 22 → k ≠ 4) → ¬ XU R (A 2 s) (fun b => cc ≠ -1 ∧ b = A 4 cc) c k := fun c k h2 h3 h4 h5 h6 y => by
    rcases kq c k y with z | z | z | z
    · omega
    · omega
    · rw [z.1] at h5
      exact h5 ka
    · exact h6 z.1 z.2.2.1
  have xz : XZ v T (A 2 s) (XU R (A 2 s) (fun b => cc ≠ -1 ∧ b = A 4 cc)) := fun c k y _ => by
    rcases kq c k y with z | z | z | z
    · omega
    · exact Or.inr (Or.inr (Or.inl ⟨z.2.2.1, by omega⟩))
    · exact Or.inr (Or.inr (Or.inr (Or.inr ⟨z.1, by rw [z.1, ka]; decide⟩)))
    · exact Or.inr (Or.inr (Or.inr (Or.inl ⟨Or.inr z.2.2.1, z.2.1⟩)))
  have x0 : ∀ k, 7 ≤ k ∧ k ≤ 13 ∨ k = 17 → ¬ XU R (A 2 s) (fun b => cc ≠ -1 ∧ b = A 4 cc) (R 0) k := fun k hk y => by
    rcases kx _ k y with z | z | z | z | z
    · omega
    · omega
    · omega
    · omega
    · omega
  have nl : ∀ l, hK v.1 l = 4 → l ≠ R 9 → ¬ XU R (A 2 s) (fun b => cc ≠ -1 ∧ b = A 4 cc) l 99 := fun l kl h1 y => by
    rcases kx _ _ y with z | z | z | z | z
    · omega
    · omega
    · exact h1 z.1
    · omega
    · omega
  have so : ∀ j, j ≠ 0 → j ≠ 3 → stL (tNr s 3 x p U) w (fun k => decide (tNr s 3 x p U 20 k = j)) = stL U w (fun k => decide (U 20 k = j)) ++ [] := fun j h1 h2 => by
    rw [List.append_nil]
    exact stL_fx h e19 (fun k hk hn => by rw [o20 k hk hn]) (fun _ => by rw [v20, u20, decide_eq_false (fun q => h2 q.symm), decide_eq_false (fun q => h1 q.symm)])
  have oo : stL (tNr s 3 x p U) w (isO (tNr s 3 x p U)) = stL U w (isO U) ++ [] := by
    rw [List.append_nil]
    refine stL_fx h e19 (fun k hk hn => ?_) (fun _ => by unfold isO; rw [v20, u20]; rfl)
    unfold isO
    rw [o20 k hk hn, oS 25 k (by decide) (by decide) (by decide) hk hn, e22, pO_fx h pq qv w0.1 (pq.1 k hk).1]
  have pn : ∀ j, j ≠ s → pnd S U s j → pnd S' (tNr s 3 x p U) (-1) j := fun j nj y => by
    rcases y with y | y
    · exact absurd y nj
    · refine Or.inr ?_
      rw [e 42 (by decide) (by decide) (by decide), h55, h56]
      exact y
  have on : ∀ b, opn S b → opn S' b := fun b y => by unfold opn at y ⊢; rw [h55, h56]; exact y
  have ig : ∀ c k, XU R (A 2 s) (fun b => cc ≠ -1 ∧ b = A 4 cc) c k → hK v.1 c ≠ 8 ∧ hK v.1 c ≠ 9 := fun c k y => by
    rcases kq c k y with z | z | z | z
    · omega
    · omega
    · rw [z.1, ka]; decide
    · omega
  refine GI_mv (s := s) (z := A 2 s) g h pq qv w0 b9 b19.2 e19 AE.refl f xz (Or.inl ⟨rfl, hsA⟩) (fun k y => ?_) (x0 7 (by omega)) (x0 8 (by omega)) (by rw [(f.ff (hK_lt k0 (by decide)) (x0 9 (by omega))).1, h55]; exact g9) t' h47 (TG_fw f g5) ?_ ⟨L0 ++ mZt U p cc ou, ?_, ?_⟩ (fun j hj hp => ?_) (fun c hc hx => ?_) (fun j hj hl => ?_) (fun c hc hr => ?_) ?_ ?_
  · rcases kq _ k y with z | z | z | z
    · omega
    · omega
    · omega
    · omega
  · refine GL_mv g6 AE.refl f e19 k0 g2.2.2.1 k9 (fun k hk => x0 k (by omega)) (nf _ _ (by rw [g2.2.2.1]; decide) (by rw [g2.2.2.1]; decide) (by rw [g2.2.2.1]; decide) (by rw [g2.2.2.1]; decide) (fun q => by rw [g2.2.2.1] at q; exact absurd q (by decide))) (nl _ g6.1.2.1 m1) [] [] [] (fun k hk => by simp at hk) (so 1 (by decide) (by decide)) (so 9 (by decide) (by decide)) oo ?_ ?_ ?_ ?_ ?_ (fun k hk hq => oS 26 k (by decide) (by decide) (by decide) hk (fun z => by rw [z, u20] at hq; omega))
    · rw [(f.cc (hK_lt g6.2.1.2.1 (by decide)) (nl _ g6.2.1.2.1 (Ne.symm m7))).1]
      simp
    · rw [(f.cc (hK_lt g6.2.2.2.1.2.1 (by decide)) (nl _ g6.2.2.2.1.2.1 (Ne.symm m9))).1]
      simp
    · rw [(f.cc (hK_lt g6.2.2.2.2.1.2.1 (by decide)) (nl _ g6.2.2.2.2.1.2.1 (Ne.symm ma))).1]
      simp
    · rw [List.map_nil, List.append_nil]
      exact IL_fw f (nl _ g6.2.2.1.2.1 (Ne.symm m8)) ig g6.2.2.1.2
    · rw [List.map_nil, List.append_nil]
      exact IL_fw f (nl _ g6.2.2.2.2.2.1.2.1 (Ne.symm mb)) ig g6.2.2.2.2.2.1.2
  · rw [insA_app]
    exact ml
  · have m0 : mPs U w s = [] := by unfold mPs; rw [u20]; rfl
    have m1 : mPs (tNr s 3 x p U) w s = mZt U p cc ou := by
      unfold mPs
      rw [if_neg (by rw [v20]; decide), if_pos v20]
      unfold mSet mZt
      rw [v25, v26, e22, po, ec, eo, e 37 (by decide) (by decide) (by decide)]
    have := mPar_px (E := mZt U p cc ou) h pq qv w0 n3 b9 e19 hsA (by rw [m0, m1]; exact List.Perm.refl _)
    exact (gb.append_right _).trans this.symm
  · by_cases q : j = s
    · rw [q]
      left
      unfold FS
      rw [v20, v25, v26, e22, po, ec]
      refine ⟨fun z => by omega, fun _ => ⟨f.kk ka (by decide), ?_, r6⟩, fun z => by omega, fun z => by omega, fun z => by omega, fun z => by omega, fun z => by omega, fun z => by omega, fun z => by omega, fun z => by omega, fun z => by omega⟩
      rw [(f.ff (k := 5) (hK_lt ka (by decide)) (fun y => by
        rcases kq _ _ y with z | z | z | z
        · omega
        · omega
        · omega
        · omega)).1]
      exact k5
    · exact Or.inr ⟨q, fun y => hp (pn j q y)⟩
  · refine Or.inr ⟨?_, fun y => hx (on c y)⟩
    unfold Ab at hc ⊢
    rw [e 40 (by decide) (by decide) (by decide)] at hc
    exact hc
  · obtain ⟨hn, hl'⟩ := lp j hj hl
    have lb := gf j hj hl'
    refine LB_keep AE.refl f hj lb (nf _ _ (by rw [lb.1]; decide) (by rw [lb.1]; decide) (by rw [lb.1]; decide) (by rw [lb.1]; decide) (fun q => by omega)) (fun y => ?_) ?_
    · have := lb.2.2.2.1
      rcases kq _ _ y with z | z | z | z
      · omega
      · omega
      · omega
      · omega
    · exact stL_fx h e19 (fun k hk hn => by rw [o20 k hk hn, tgt_fx h pq hk]) (fun _ => by rw [v20, u20]; rfl)
  · rw [e 33 (by decide) (by decide) (by decide)] at hr
    have nz : c / 4 ≠ s := fun y => by rw [y, u33] at hr; omega
    obtain ⟨c1, c2, c3⟩ := gg c hc hr
    refine ⟨Or.inr hr, ?_, fun hp => ?_⟩
    · rw [isS_l h pq qv w0.1 e19 n1 hs (by omega) v20, v25, e22, po, ec]
      by_cases q : cc = c
      · have ncc : cc ≠ -1 := fun z => by have := hc.1; omega
        rw [decide_eq_true q, Bool.or_true, bI_t rfl, ← q]
        exact i4 ncc
      · rw [decide_eq_false q, Bool.or_false, ← c2]
        have c11 := c1.1
        refine (f.ff (k := 4) (hK_lt c1.1 (by decide)) (fun y => ?_)).1
        rcases kq _ _ y with z | z | z | z
        · omega
        · omega
        · omega
        · exact q (gh c cc hc hr (cR z.2.2.2.1).1 (cR z.2.2.2.1).2.1 z.2.2.2.2).symm
    · rw [(f.ff (k := 3) (hK_lt c1.1 (by decide)) (nf _ _ (by rw [c1.1]; decide) (by rw [c1.1]; decide) (by rw [c1.1]; decide) (by rw [c1.1]; decide) (fun _ => by decide))).2.2, e 34 (by decide) (by decide) (by decide)]
      exact c3 (fun y => hp (pn _ nz y))
  · rw [e 33 (by decide) (by decide) (by decide)]
    exact gh
  · exact fun i d hi hl hd hq y => gj i d hi (lp i hi hl).2 hd (lp d hd hq).2 y
theorem st_set (hd : HD R Ah Th w p0 vh S Uh o) (cr : CR h v) (md : MD R A T w s p0 v S U o) (cx : CX R w (S 56 (S 55 0 - 1)) Ah Th vh Uh A T v U 20 340) (hs : s = w * 120 + Uh 19 w) (e19 : U 19 w = Uh 19 w + 1) (u20 : U 20 s = 0) (u33 : U 33 s = 0) (ea : A 2 s = a)
    (na : hN vh.1 ≤ a) (ka : hK v.1 a = 30) (k5 : hI v.1 a 5 = iI 3) (st : ∃ V, tStep w S Uh = (tTs (tAdv S), V) ∧ (tIsN (tAdv S) = true → V = tNr s 3 (tAdv S 50 0) (tAdv S 49 0) U))
    (q1 : ∀ h' v' A' T' S' U', CR h' v' → SX R w 20 300 Ah Th vh S Uh A' T' v' S' U' → HD R A' T' w p0 v' S' U' o → tGo w (S, Uh) (S', U') → S 49 0 < S' 49 0 → S' 55 0 = S 55 0 → (∀ i, i < S 55 0 → S' 56 i = S 56 i) → NWs w Uh U' (S 56 (S 55 0 - 1)) → Q (Sum.inl (some (vR (some (A' 2 (w * 120 + Uh 19 w)))))) h')
    (q2 : ∀ h' v' p, CR h' v' → WX R Th vh v' S (20 - 2 * S 55 0) p → doom w (S, Uh) p → Q (Sum.inr (R 2)) h') :
    Rn r 175 133 [some (vR (some (R 0))), some (vR o), l2, some (vR (some a)), l4, l5, l6, l7, l8, l9, l10, l11, l12] [] h Q := by
  have hd' := hd
  obtain ⟨gh, ⟨hPh, prh, qvh, w0⟩, ⟨d1, s52⟩, arh, chh⟩ := hd
  obtain ⟨V, st, sv⟩ := st
  have n19 := hPh.2.2.2.2.2.1
  have si0 := hPh.1
  have d8 := si0.2.2.2.2.2.2.2
  have a47 := tAdv_47 si0
  have e521 : tAdv S 52 0 = -1 := by rw [tAdv_52]; exact s52
  have e481 : tAdv S 48 0 = S 48 0 := by rw [tAdv_55.2.2.1]
  have si1 := SI_adv si0
  have dm : ∀ p, (∀ V, doom w (tTs (tAdv S), V) p) → doom w (S, Uh) p := fun p y => doom_step s52 (Or.inl (by omega)) (by rw [st]; exact y V)
  refine st_next d1 cr md cx ka (by decide) (by decide) (fun z h1 v1 c1 md1 cx1 f1 fa1 ka1 => ?_) (fun z h1 v1 c1 wx => q2 h1 v1 _ c1 wx (dm _ (fun V => ?_)))
  · have k01 := md1.1.1.w0.1
    have kr1 := c1.kk k01 (by decide)
    have le1 := md1.1.1.le
    have md1' := md1
    obtain ⟨g, ⟨hP, pr, qv, _⟩, _, ar, hsA, e22, ch⟩ := md1
    have n191 := hP.2.2.2.2.2.1
    have g4 := gh.2.2.2.1
    obtain ⟨L0, ga, gb⟩ := g.2.2.2.2.2.2.2.1
    have len : (insA [] L0).length ≤ 2700 := by
      rw [insA_len, List.length_nil, gb.length_eq]
      have := mPar_len (w := w) qv
      omega
    obtain ⟨_, t9, _⟩ := g.2.2.2.2.2.1.2.2.2.2.2.2.1
    have k9 := g.k9
    have k51 : hI v1.1 a 5 = iI 3 := by rw [(fa1 5).1]; exact k5
    have cF : (pO U (tAdv S 50 0) (U 22 s)).1 ≠ -1 → CF v1 A T U w (pO U (tAdv S 50 0) (U 22 s)).1 := fun q => by
      have y := pO_As pr.1 qv w0.1 (x := tAdv S 50 0) (pr.1.1 s hsA).1 q
      exact (g.2.2.2.2.2.2.2.2.2.2.2.2.1 _ y.1 y.2.1).1
    have xh : ∀ b k, XU R a (fun b => (pO U (tAdv S 50 0) (U 22 s)).1 ≠ -1 ∧ b = A 4 (pO U (tAdv S 50 0) (U 22 s)).1) b k → hN vh.1 ≤ b ∨ Xb (R 0) (R 2) Th b k := fun b k y => by
      rcases y with (y | y) | y | y | y
      · exact Or.inr (Or.inl ⟨y.1, by omega⟩)
      · exact Or.inr (Or.inr (Or.inl y))
      · by_cases q : b < hN vh.1
        · exact Or.inr (Or.inr (Or.inr (Or.inl ⟨y.2, by rw [← cx1.2.2.1 b q, y.1]; exact Or.inr t9⟩)))
        · exact Or.inl (by omega)
      · exact Or.inl (by rw [y.1]; exact na)
      · by_cases q : b < hN vh.1
        · refine Or.inr (Or.inr (Or.inr (Or.inr ⟨y.2, ?_⟩)))
          rw [← cx1.2.2.1 b q, y.1.2]
          exact (cF y.1.1).2.1
        · exact Or.inl (by omega)
    rw [dsp_30 (c1.kk ka1 (by decide)), sX1_statement_175, sX1_statement_176, sX1_statement_178, sX1_statement_179 kr1]
    refine c_plain3 c1 md1' ka1 k51 ga len rfl rfl (fun n x51 z2 h2 v2 c2 f2 t2 r6 i4 ml2 rm2 => ?_) (fun h2 v2 p c2 f2 rm2 i6 cp2 dm2 => ?_)
    · obtain ⟨n1, n2, n55, n56, n48, n52, n47⟩ := nm_name si1 g.1.2.2.1 n
      have b47 := tAdv_47 n1
      have tk1 := n2.2.2.1 (by omega)
      obtain ⟨f53, f54, f47, f49, f50, f51⟩ := tName_g n
      have c47 := tAdv_47 si1
      have hV := sv n
      have ts : tTs (tAdv S) = tAdv (tName (tAdv S)) := by
        unfold tTs tTake
        rw [if_pos n, if_pos x51]
      have f2' := f2
      have r6' := r6
      rw [← ea] at f2' r6'
      have h55 : tAdv (tName (tAdv S)) 55 = tAdv S 55 := by rw [tAdv_55.1, n55]
      have h56 : tAdv (tName (tAdv S)) 56 = tAdv S 56 := by rw [tAdv_55.2.1, n56]
      have G2 := GI_set (x := tAdv S 50 0) (p := tAdv S 49 0) (S' := tAdv (tName (tAdv S))) g pr qv w0 (by omega) (by omega) u20 u33 (by rw [ea]; exact ka1) (by rw [ea]; exact k51) rfl rfl f2' t2 (by omega) h55 h56 r6' i4 gb ml2
      have hfx : FX w s U (tNr s 3 (tAdv S 50 0) (tAdv S 49 0) U) := tNr_fx
      have e19' : tNr s 3 (tAdv S 50 0) (tAdv S 49 0) U 19 w = U 19 w := by rw [tNr_o (by decide) (by decide) (by decide)]
      obtain ⟨x1, x2, x3, x4, x5⟩ := cx1.fx hfx e19' (by omega) (by omega) w0.1 n19.1
      have m3 := x1.fw f2 xh rm2
      have cx3 : CX R w (S 56 (S 55 0 - 1)) Ah Th vh Uh A T v2 (tNr s 3 (tAdv S 50 0) (tAdv S 49 0) U) _ _ := ⟨m3, x2, x3, x4, x5⟩
      have k21 := g.1.w0.2.1
      have ar3 := AR_fx hfx pr.1 qv _ _ _ (pr.1.1 s hsA).1 (AR_fw f2 (fun c k y => by
        rcases y with (y | y) | y | y | y
        · rw [y.1, k01]; exact ⟨by decide, fun q => absurd q (by decide), fun _ => by decide⟩
        · rw [y.1, k21]; exact ⟨by decide, fun q => absurd q (by decide), fun _ => by decide⟩
        · rw [y.1, k9]; exact ⟨by decide, fun q => absurd q (by decide), fun _ => by decide⟩
        · rw [y.1, ka1]; exact ⟨by decide, fun q => absurd q (by decide), fun _ => by decide⟩
        · rw [y.1.2, (cF y.1.1).1]; exact ⟨by decide, fun _ => by omega, fun q => by omega⟩) _ _ _ ar)
      rw [e22, tAdv_55.1, tAdv_55.2.1] at ar3
      rw [Kt_0, sX1_statement_182, sX1_statement_432, sX1_statement_433]
      have fin := st_fin hd' cx3 c2 G2 (by rw [st, ts, hV]; exact tGo_refl _) (by rw [tAdv_52, n52]; exact e521) (by rw [h55, tAdv_55.1]) (fun i _ => by rw [h56, tAdv_55.2.1]) (by rw [tAdv_55.2.2.1, n48]; exact e481) ar3 (by omega) (by omega) (by omega) q1
      rw [← hs, ea] at fin
      exact fin
    · rw [Kt_x]
      have m3 := cx1.1.fw f2 xh rm2
      refine q2 h2 v2 p c2 ⟨m3.le (by omega) (by omega), i6, cp2⟩ (dm p dm2)
  · unfold tTs
    have s50 : tAdv S 50 0 = 0 := (TK_adv si0.1).2.2.2 (by omega)
    rw [if_neg (fun y => (tIsN_iff.mp y).1 s50)]
    exact doom_fail e521 si1
end GSE
