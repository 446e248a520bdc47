/-! COMPONENT, 53: throw: the invariant, from head to head *-/
section GTH
variable {r a : Nat} {h : am_H} {R : Nat → Nat} {A Ah : Nat → Int → Nat} {T Th : Nat → Nat} {w s p0 x p cc : Int} {v v' vh : vT} {S S' Uh U : tSt} {o : Option Nat} {ou : Bool} {L0 : List tMi} {Q : am_O → am_H → Prop} {l2 l4 l5 l6 l7 l8 l9 l10 l11 l12 : Option am_V}
/-- the rows behind a name: sort k, word x at p -/
def tNr (s k x p : Int) (U : tSt) : tSt := up (up (up U 20 s k) 25 s x) 26 s p
theorem tNr_o {k : Int} {f : Nat} (h1 : f ≠ 20) (h2 : f ≠ 25) (h3 : f ≠ 26) : tNr s k x p U f = U f := by
  unfold tNr
  rw [up_n h3, up_n h2, up_n h1]
theorem tNr_v {k : Int} : tNr s k x p U 20 s = k ∧ tNr s k x p U 25 s = x ∧ tNr s k x p U 26 s = p := by
  unfold tNr
  refine ⟨?_, ?_, up_s⟩
  · rw [up_n (by decide), up_n (by decide), up_s]
  · rw [up_n (by decide), up_s]
theorem tNr_fx {k : Int} : FX w s U (tNr s k x p U) := FX_up (FX_up (FX_up (FU.refl.fx (Int.le_refl _)) (by decide) (by decide) (by decide) (Or.inl ⟨rfl, Or.inl rfl⟩)) (by decide) (by decide) (by decide) (Or.inl ⟨rfl, Or.inr (Or.inl (by decide))⟩)) (by decide) (by decide) (by decide) (Or.inl ⟨rfl, Or.inr (Or.inl (by decide))⟩)
theorem GI_thr (g : GI R A T w s p0 v S U) (pr : PR w U) (qv : QV U) (w0 : 0 ≤ w ∧ w ≤ 1) (hs : s = w * 120 + (U 19 w - 1)) (n1 : 1 ≤ U 19 w) (u20 : U 20 s = 0) (u33 : U 33 s = 0) (ka : hK v.1 (A 2 s) = 32) (ec : (pO U x (U 22 s)).1 = cc) (eo : (pO U x (U 22 s)).2 = ou)
    (f : Fw (XT R (A 2 s) (fun b => (cc ≠ -1 ∧ ou = true) ∧ (b = R 13 ∨ b = R 14))) v v') (t' : PT v' (R 0) (R 1) (R 2) S') (h47 : p0 ≤ S' 47 0) (h55 : S' 55 = S 55) (h56 : S' 56 = S 56) (r5 : hR v'.1 (A 2 s) 5 = optA (A 4) cc) (r6 : hR v'.1 (A 2 s) 6 = (if cc = -1 then optA (A 0) (kO U w x p) else none))
    (gb : L0.Perm (mPar U w)) (ml : ML v' (R 9) (insA (insA [] L0) (if cc = -1 ∧ kO U w x p = -1 then [(1, (p, -1))] else []))) (ls : cc ≠ -1 ∧ ou = true → vLs v' (R 13) = vLs v (R 13) ++ [some (A 2 s)] ∧ ∃ e, vLs v' (R 14) = vLs v (R 14) ++ [some e] ∧ isIg v' e p) : GI R A T w (-1) p0 v' S' (tNr s 2 x p U) := by
  have h : FX w s U (tNr s 2 x p U) := tNr_fx
  have e : ∀ f, f ≠ 20 → f ≠ 25 → f ≠ 26 → tNr s 2 x p U f = U f := fun f h1 h2 h3 => tNr_o h1 h2 h3
  obtain ⟨v20, v25, v26⟩ := tNr_v (s := s) (k := 2) (x := x) (p := p) (U := U)
  have e19 : tNr s 2 x p U 19 w = U 19 w := by rw [e 19 (by decide) (by decide) (by decide)]
  have e22 : tNr s 2 x p U 22 = U 22 := e 22 (by decide) (by decide) (by decide)
  have hsA : As w U s := ⟨by omega, by omega⟩
  have pq := pr.1
  have b19 := QV_b qv (f := 19) (c := 120) rfl rfl rfl w
  have b9 := QV_b qv (f := 9) (c := 12) rfl rfl rfl w
  have g' := g
  obtain ⟨g1, g2, g3, g4, g5, g6, ⟨g7, g8, g9⟩, _, gc, gd, ge, gf, gg, gh, gj⟩ := g'
  have n3 := g3.2.2.2
  have oS : ∀ f j, 20 ≤ f → f ≤ 30 ∨ f = 33 → f ≠ 24 → As w U j → j ≠ s → tNr s 2 x p U f j = U f j := fun f j h1 h2 h3 hj hn => h.fs hj h1 h2 h3 (Or.inl hn)
  have o20 : ∀ j, As w U j → j ≠ s → tNr s 2 x p U 20 j = U 20 j := fun j hj hn => oS 20 j (by decide) (by decide) (by decide) hj hn
  have lp : ∀ j, As w U j → tNr s 2 x p U 20 j = 5 ∨ tNr s 2 x p U 20 j = 6 → j ≠ s ∧ (U 20 j = 5 ∨ U 20 j = 6) := fun j hj hl => by
    by_cases z : j = s
    · rw [z, v20] at hl
      omega
    · rw [o20 j hj z] at hl
      exact ⟨z, hl⟩
  have po : ∀ y, pO (tNr s 2 x p U) y (U 22 s) = pO U y (U 22 s) := fun y => pO_fx h pq qv w0.1 (pq.1 s hsA).1
  have k0 := g1.w0.1
  have k2 := g1.w0.2.1
  have k9 := g.k9
  obtain ⟨t8, t9, t10, t11, t12, t13, t14⟩ := g6.2.2.2.2.2.2.1
  obtain ⟨m1, m2, m3, m4, m5, m6, m7, m8, m9, ma, mb⟩ := g6.2.2.2.2.2.2.2.1
  obtain ⟨mc, md9, me, mf, mg, mh, mi, mj, mk, mm⟩ := g6.2.2.2.2.2.2.2.2
  have k13 := g6.2.2.2.2.1.2.1
  have k14 := g6.2.2.2.2.2.1.2.1
  have kx : ∀ c k, XT R (A 2 s) (fun b => (cc ≠ -1 ∧ ou = true) ∧ (b = R 13 ∨ b = R 14)) c k → (c = R 0 ∧ (3 ≤ k ∧ k ≤ 6 ∨ 14 ≤ k ∧ k ≤ 16)) ∨ (c = R 2 ∧ k = 6) ∨ (c = R 9 ∧ k = 99) ∨ (c = A 2 s ∧ (k = 5 ∨ k = 6)) ∨ (k = 99 ∧ (cc ≠ -1 ∧ ou = true) ∧ (c = R 13 ∨ c = R 14)) := fun c k y => by
    rcases y with (y | y) | y | y | y
    · exact Or.inl y
    · exact Or.inr (Or.inl y)
    · exact Or.inr (Or.inr (Or.inl y))
    · exact Or.inr (Or.inr (Or.inr (Or.inl y)))
    · exact Or.inr (Or.inr (Or.inr (Or.inr ⟨y.2, y.1.1, y.1.2⟩)))
  have kq : ∀ c k, XT R (A 2 s) (fun b => (cc ≠ -1 ∧ ou = true) ∧ (b = R 13 ∨ b = R 14)) c k → (hK v.1 c = 2 ∨ hK v.1 c = 3) ∧ k ≠ 99 ∨ (hK v.1 c = 4 ∧ T c = 3 ∧ k = 99) ∨ (c = A 2 s ∧ (k = 5 ∨ k = 6)) := fun c k y => by
    rcases kx c k y with z | z | z | z | z
    · exact Or.inl ⟨Or.inl (by rw [z.1]; exact k0), by omega⟩
    · exact Or.inl ⟨Or.inr (by rw [z.1]; exact k2), by omega⟩
    · exact Or.inr (Or.inl ⟨by rw [z.1]; exact k9, by rw [z.1]; exact t9, z.2⟩)
    · exact Or.inr (Or.inr z)
    · rcases z.2.2 with q | q
      · exact Or.inr (Or.inl ⟨by rw [q]; exact k13, by rw [q]; exact t13, z.1⟩)
      · exact Or.inr (Or.inl ⟨by rw [q]; exact k14, by rw [q]; exact t14, z.1⟩)
  have nf : ∀ c k, hK v.1 c ≠ 2 → hK v.1 c ≠ 3 → hK v.1 c ≠ 4 → hK v.1 c ≠ 32 → ¬ XT R (A 2 s) (fun b => (cc ≠ -1 ∧ ou = true) ∧ (b = R 13 ∨ b = R 14)) c k := fun c k h2 h3 h4 h5 y => by
    rcases kq c k y with z | z | z
    · omega
    · omega
    · rw [z.1] at h5
      exact h5 ka
  have xz : XZ v T (A 2 s) (XT R (A 2 s) (fun b => (cc ≠ -1 ∧ ou = true) ∧ (b = R 13 ∨ b = R 14))) := fun c k y _ => by
    rcases kq c k y with z | z | z
    · omega
    · exact Or.inr (Or.inr (Or.inl ⟨z.2.2, by omega⟩))
    · exact Or.inr (Or.inr (Or.inr (Or.inr ⟨z.1, by rw [z.1, ka]; decide⟩)))
  have x0 : ∀ k, 7 ≤ k ∧ k ≤ 13 ∨ k = 17 → ¬ XT R (A 2 s) (fun b => (cc ≠ -1 ∧ ou = true) ∧ (b = R 13 ∨ b = R 14)) (R 0) k := fun k hk y => by
    rcases kx _ k y with z | z | z | z | z
    · omega
    · omega
    · omega
    · rw [z.1] at k0
      rw [ka] at k0
      exact absurd k0 (by decide)
    · omega
  have nl : ∀ l, hK v.1 l = 4 → l ≠ R 9 → l ≠ R 13 ∧ l ≠ R 14 ∨ ¬ (cc ≠ -1 ∧ ou = true) → ¬ XT R (A 2 s) (fun b => (cc ≠ -1 ∧ ou = true) ∧ (b = R 13 ∨ b = R 14)) l 99 := fun l kl h1 h2 y => by
    rcases kx _ _ y with z | z | z | z | z
    · omega
    · omega
    · exact h1 z.1
    · omega
    · rcases h2 with h2 | h2
      · rcases z.2.2 with q | q
        · exact h2.1 q
        · exact h2.2 q
      · exact h2 z.2.1
  have so : ∀ j, j ≠ 0 → j ≠ 2 → stL (tNr s 2 x p U) w (fun k => decide (tNr s 2 x p U 20 k = j)) = stL U w (fun k => decide (U 20 k = j)) ++ [] := fun j h1 h2 => by
    rw [List.append_nil]
    exact stL_fx h e19 (fun k hk hn => by rw [o20 k hk hn]) (fun _ => by rw [v20, u20, decide_eq_false (fun q => h2 q.symm), decide_eq_false (fun q => h1 q.symm)])
  have oos : isO (tNr s 2 x p U) s = (decide (cc ≠ -1) && ou) := by
    unfold isO
    rw [v20, v25, e22, po, ec, eo]
    rfl
  have oo : stL (tNr s 2 x p U) w (isO (tNr s 2 x p U)) = stL U w (isO U) ++ (if cc ≠ -1 ∧ ou = true then [s] else []) := by
    rw [stL_l (p := isO U) h e19 n1 hs (fun k hk hn => ?_) (by unfold isO; rw [u20]; rfl), oos]
    · congr 1
      by_cases q : cc ≠ -1 ∧ ou = true
      · rw [if_pos q, decide_eq_true q.1, q.2]
        rfl
      · rw [if_neg q, if_neg]
        intro y
        rw [Bool.and_eq_true, decide_eq_true_eq] at y
        exact q y
    · unfold isO
      rw [o20 k hk hn, oS 25 k (by decide) (by decide) (by decide) hk hn, e22, pO_fx h pq qv w0.1 (pq.1 k hk).1]
  have pn : ∀ j, j ≠ s → pnd S U s j → pnd S' (tNr s 2 x p U) (-1) j := fun j nj y => by
    rcases y with y | y
    · exact absurd y nj
    · refine Or.inr ?_
      rw [e 42 (by decide) (by decide) (by decide), h55, h56]
      exact y
  have on : ∀ b, opn S b → opn S' b := fun b y => by unfold opn at y ⊢; rw [h55, h56]; exact y
  have keep8 : ∀ b z, isIg v b z → isIg v' b z := fun b z y => by
    obtain ⟨y1, y2⟩ := y
    have lt : b < hN v.1 := by rcases y1 with q | q <;> exact hK_lt q (by decide)
    refine ⟨?_, ?_⟩
    · rw [(f.2.2 b lt).1]
      exact y1
    · rw [(f.ff (k := 0) lt (nf _ _ (by omega) (by omega) (by omega) (by omega))).1]
      exact y2
  refine GI_mv (s := s) (z := A 2 s) g h pq qv w0 b9 b19.2 e19 AE.refl f xz (Or.inl ⟨rfl, hsA⟩) (fun k y => ?_) (x0 7 (by omega)) (x0 8 (by omega)) (by rw [(f.ff (hK_lt k0 (by decide)) (x0 9 (by omega))).1, h55]; exact g9) t' h47 (TG_fw f g5) ?_ ⟨L0 ++ (if cc = -1 ∧ kO U w x p = -1 then [(1, (p, -1))] else []), ?_, ?_⟩ (fun j hj hp => ?_) (fun c hc hx => ?_) (fun j hj hl => ?_) (fun c hc hr => ?_) ?_ ?_
  · rcases kx _ k y with z | z | z | z | z
    · rw [z.1, k0] at ka
      exact absurd ka (by decide)
    · omega
    · omega
    · omega
    · omega
  · refine GL_mv g6 AE.refl f e19 k0 g2.2.2.1 k9 (fun k hk => x0 k (by omega)) (nf _ _ (by rw [g2.2.2.1]; decide) (by rw [g2.2.2.1]; decide) (by rw [g2.2.2.1]; decide) (by rw [g2.2.2.1]; decide)) (nl _ g6.1.2.1 m1 (Or.inl ⟨m5, m6⟩)) [] [] (if cc ≠ -1 ∧ ou = true then [s] else []) (fun k hk => ?_) (so 1 (by decide) (by decide)) (so 9 (by decide) (by decide)) oo ?_ ?_ ?_ ?_ ?_ (fun k hk hq => oS 26 k (by decide) (by decide) (by decide) hk (fun z => by rw [z, u20] at hq; omega))
    · simp only [List.nil_append] at hk
      split at hk
      · rw [List.mem_singleton.mp hk]
        exact hsA
      · simp at hk
    · rw [(f.cc (hK_lt g6.2.1.2.1 (by decide)) (nl _ g6.2.1.2.1 (Ne.symm m7) (Or.inl ⟨me, mf⟩))).1]
      simp
    · rw [(f.cc (hK_lt g6.2.2.2.1.2.1 (by decide)) (nl _ g6.2.2.2.1.2.1 (Ne.symm m9) (Or.inl ⟨mj, mk⟩))).1]
      simp
    · by_cases q : cc ≠ -1 ∧ ou = true
      · rw [if_pos q, (ls q).1]
        rfl
      · rw [if_neg q, (f.cc (hK_lt k13 (by decide)) (nl _ k13 (Ne.symm ma) (Or.inr q))).1]
        simp
    · rw [List.map_nil, List.append_nil]
      exact IL_fw f (nl _ g6.2.2.1.2.1 (Ne.symm m8) (Or.inl ⟨mh, mi⟩)) (fun c k y => by
        rcases kq c k y with z | z | z
        · omega
        · omega
        · rw [z.1, ka]; decide) g6.2.2.1.2
    · by_cases q : cc ≠ -1 ∧ ou = true
      · obtain ⟨_, e8, y2, y3⟩ := ls q
        rw [if_pos q, List.map_cons, List.map_nil, v26]
        exact IL_snoc g6.2.2.2.2.2.1.2 (f.kk k14 (by decide)) (fun b y => keep8 b _ y) keep8 y2 y3
      · rw [if_neg q, List.map_nil, List.append_nil]
        exact IL_fw f (nl _ k14 (Ne.symm mb) (Or.inr q)) (fun c k y => by
          rcases kq c k y with z | z | z
          · omega
          · omega
          · rw [z.1, ka]; decide) g6.2.2.2.2.2.1.2
  · rw [insA_app]
    exact ml
  · have m0 : mPs U w s = [] := by unfold mPs; rw [u20]; rfl
    have m1 : mPs (tNr s 2 x p U) w s = (if cc = -1 ∧ kO U w x p = -1 then [(1, (p, -1))] else []) := by
      unfold mPs
      rw [if_pos v20, v25, v26, e22, po, ec, kO_fx h w0 n3]
    have := mPar_px (E := (if cc = -1 ∧ kO U w x p = -1 then [(1, (p, -1))] else [])) h pq qv w0 n3 b9 e19 hsA (by rw [m0, m1]; exact List.Perm.refl _)
    exact (gb.append_right _).trans this.symm
  · by_cases q : j = s
    · rw [q]
      left
      unfold FS
      rw [v20, v25, v26, e22, po, ec, kO_fx h w0 n3]
      exact ⟨fun z => by omega, fun z => by omega, fun z => by omega, fun _ => ⟨f.kk ka (by decide), r5, r6⟩, fun z => by omega, fun z => by omega, fun z => by omega, fun z => by omega, fun z => by omega, fun z => by omega, fun z => by omega⟩
    · exact Or.inr ⟨q, fun y => hp (pn j q y)⟩
  · refine Or.inr ⟨?_, fun y => hx (on c y)⟩
    unfold Ab at hc ⊢
    rw [e 40 (by decide) (by decide) (by decide)] at hc
    exact hc
  · obtain ⟨hn, hl'⟩ := lp j hj hl
    have lb := gf j hj hl'
    refine LB_keep AE.refl f hj lb (nf _ _ (by rw [lb.1]; decide) (by rw [lb.1]; decide) (by rw [lb.1]; decide) (by rw [lb.1]; decide)) (fun y => ?_) ?_
    · have := lb.2.2.2.1
      rcases kq _ _ y with z | z | z
      · omega
      · omega
      · omega
    · exact stL_fx h e19 (fun k hk hn => by rw [o20 k hk hn, tgt_fx h pq hk]) (fun _ => by rw [v20, u20]; rfl)
  · rw [e 33 (by decide) (by decide) (by decide)] at hr
    have nz : c / 4 ≠ s := fun y => by rw [y, u33] at hr; omega
    obtain ⟨c1, c2, c3⟩ := gg c hc hr
    have q := fun j => f.ff (k := j) (hK_lt c1.1 (by decide)) (nf _ _ (by rw [c1.1]; decide) (by rw [c1.1]; decide) (by rw [c1.1]; decide) (by rw [c1.1]; decide))
    refine ⟨Or.inr hr, ?_, fun hp => ?_⟩
    · rw [(q 4).1, c2, isS_fx h pq qv w0.1 e19 (by omega) (by omega)]
    · rw [(q 3).2.2, e 34 (by decide) (by decide) (by decide)]
      exact c3 (fun y => hp (pn _ nz y))
  · rw [e 33 (by decide) (by decide) (by decide)]
    exact gh
  · exact fun i d hi hl hd hq y => gj i d hi (lp i hi hl).2 hd (lp d hd hq).2 y
end GTH
