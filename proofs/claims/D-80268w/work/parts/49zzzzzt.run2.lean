/-! COMPONENT, 61: run, from head to head *-/
section RN2
variable {r a l : Nat} {h : am_H} {R : Nat → Nat} {A Ah : Nat → Int → Nat} {T Th : Nat → Nat} {w s b0 p0 c d n m sp : Int} {v v6 vh : vT} {S S4 X Uh U U4 : tSt} {o : Option Nat} {N : List (Int × Int)} {L0 : List tMi} {Q : am_O → am_H → Prop} {l2 l4 l5 l6 l7 l8 l9 l10 l11 l12 : Option am_V}
theorem tLs_tks : ∀ (d n : Nat) (S : tSt), SI S → TK S → Tks S (tLs sp n d S).2.1 := by
  intro d
  induction d with
  | zero => intro n S si tk; exact Tks.rf si tk
  | succ d ih =>
    intro n S si tk
    have y1 := Tks_adv si tk
    rw [tLs]
    by_cases h4 : n = 4
    · rw [if_pos h4]
      exact y1.tr (Tks_fail y1.1 y1.2.1)
    · rw [if_neg h4]
      by_cases hn : tIsN (tAdv S) = true
      · have y2 := y1.tr (Tks_name y1.1 y1.2.1)
        rw [if_pos hn]
        by_cases hs : tName (tAdv S) 51 0 = sp
        · rw [if_pos hs]
          exact y2.tr (ih (n + 1) _ y2.1 y2.2.1)
        · rw [if_neg hs]
          exact y2
      · rw [if_neg hn]
        exact y1.tr (Tks_fail y1.1 y1.2.1)
theorem PI_nW (hP : PI w X U) (hNl : N.length ≤ 4) (u30 : U 30 s = 0) : PI w X (nW 30 31 32 s N U) := by
  obtain ⟨h1, h2, h3, u1, u2, u3, u4, u5, u6, u7⟩ := hP
  refine ⟨h1, h2, h3, ?_⟩
  unfold PU
  rw [nW_f (f := 3) (by decide) (by decide) (by decide), nW_f (f := 9) (by decide) (by decide) (by decide), nW_f (f := 19) (by decide) (by decide) (by decide), nW_f (f := 40) (by decide) (by decide) (by decide), nW_f (f := 46) (by decide) (by decide) (by decide), nW_f (f := 41) (by decide) (by decide) (by decide), nW_f (f := 42) (by decide) (by decide) (by decide), nW_f (f := 33) (by decide) (by decide) (by decide)]
  refine ⟨u1, u2, u3, u4, u5, u6, fun k k1 k2 => ⟨(u7 k k1 k2).1, ?_⟩⟩
  rw [nW_c (by decide) (by decide)]
  split
  · rw [u30]
    omega
  · exact (u7 k k1 k2).2
/-- the names behind a run are in its list: it is in hand again -/
theorem MD_run (md : MD R A T w s p0 v S4 U4 o) (cx : CX R w b0 Ah Th vh Uh A T v U4 c d) (hsh : 120 * w + Uh 19 w ≤ s) (n0 : 0 ≤ Uh 19 w) (u20 : U4 20 s = 10) (u30 : U4 30 s = 0) (hNl : N.length ≤ 4) (ea : A 2 s = a) (na : hN vh.1 ≤ a) (ka : hK v.1 a = 37) (cr : CR h v6)
    (f6 : Fw (Xm (R 0) (R 2) (R 9)) v v6) (t6 : PT v6 (R 0) (R 1) (R 2) X) (tks : Tks S4 X) (x52 : X 52 0 = -1) (x47 : S4 47 0 ≤ X 47 0) (hl : hN v.1 ≤ l) (hlh : hN vh.1 ≤ l) (gb : L0.Perm (mPar U4 w)) (ml : ML v6 (R 9) (insA (insA [] L0) (mNs U4 w N))) (nl : NL v6 (A 0) l N.length (nK U4 w N) (nP N)) (rm : RM (R 9) v v6 n m) (pq7 : PR w (nW 30 31 32 s N U4) ∧ QV (nW 30 31 32 s N U4)) (tzh : Th l = 0) :
    CR (putR h a 6 (some l)) (vpR v6 a 6 (some l)) ∧ MD R A (Tst T l 1) w s p0 (vpR v6 a 6 (some l)) X (nW 30 31 32 s N U4) o ∧ CX R w b0 Ah Th vh Uh A (Tst T l 1) (vpR v6 a 6 (some l)) (nW 30 31 32 s N U4) (c + n) (d + m) ∧ hK v6.1 a = 37 ∧ (∀ k, k ≠ 6 → hR (vpR v6 a 6 (some l)).1 a k = hR v.1 a k) ∧ hR (vpR v6 a 6 (some l)).1 a 6 = some l ∧
      NL (vpR v6 a 6 (some l)) (A 0) l (nW 30 31 32 s N U4 30 s) (fun i => kO (nW 30 31 32 s N U4) w (nW 30 31 32 s N U4 31 (4 * s + i)) (nW 30 31 32 s N U4 32 (4 * s + i))) (fun i => nW 30 31 32 s N U4 32 (4 * s + i)) := by
  obtain ⟨g, ⟨hP, pr, qv, w0⟩, ⟨d1, s52⟩, ar, hsA, e22, ch⟩ := md
  have k0 := g.1.w0.1
  have k2 := g.1.w0.2.1
  have kt := g.1.w0.2.2
  have k9 := g.k9
  have t9 := g.2.2.2.2.2.1.2.2.2.2.2.2.1.2.1
  have na0 : a ≠ R 0 := fun e => by rw [← e, ka] at k0; exact absurd k0 (by decide)
  have na2 : a ≠ R 2 := fun e => by rw [← e, ka] at k2; exact absurd k2 (by decide)
  have na1 : a ≠ R 1 := fun e => by rw [← e, ka] at kt; exact absurd kt (by decide)
  have na9 : a ≠ R 9 := fun e => by rw [← e, ka] at k9; exact absurd k9 (by decide)
  have ka6 := f6.kk ka (by decide)
  have nx6 : ∀ k, ¬ Xm (R 0) (R 2) (R 9) a k := fun k y => by
    rcases y with (y | y) | y
    · exact na0 y.1
    · exact na2 y.1
    · exact na9 y.1
  have fa6 := fun j => f6.ff (k := j) (hK_lt ka (by decide)) (nx6 j)
  have F : Fw (XR R a) v (vpR v6 a 6 (some l)) := (f6.mono (fun b k y => Or.inl y)).pR (Or.inr (Or.inr ⟨rfl, rfl⟩))
  have fp : Fw (fun b k => b = a ∧ k = 6) v6 (vpR v6 a 6 (some l)) := Fw.refl.pR (Or.inr ⟨rfl, rfl⟩)
  have F' := F
  rw [← ea] at F'
  have t7 : PT (vpR v6 a 6 (some l)) (R 0) (R 1) (R 2) X := PT_fw fp t6 (fun k _ y => na0 y.1.symm) (fun k y => na1 y.1.symm) (fun b y => by omega)
  have h55 : X 55 = S4 55 := tks.2.2.2.1 55 (by decide) (by decide) (by decide) (by decide) (by decide) (by decide) (by decide)
  have h56 : X 56 = S4 56 := tks.2.2.2.1 56 (by decide) (by decide) (by decide) (by decide) (by decide) (by decide) (by decide)
  have g4 := g.2.2.2.1
  have hfx : FX w s U4 (nW 30 31 32 s N U4) := nW_fx hNl u30
  have e19' : nW 30 31 32 s N U4 19 w = U4 19 w := by rw [nW_f (by decide) (by decide) (by decide)]
  have e22' : nW 30 31 32 s N U4 22 = U4 22 := nW_f (by decide) (by decide) (by decide)
  have s0 : 0 ≤ s := by have := hsA.1; omega
  have G7 := GI_run (N := N) (l := l) (S' := X) g pr qv w0 hsA u20 u30 hNl (by rw [ea]; exact ka) F' (by rw [ea]; exact t7) (by omega) h55 h56 hl (by rw [ea]; exact nl.1) gb (by rw [ea]; exact ML_fw fp ml (fun y => by omega) (fun b k y hk => by omega))
  rw [ea] at G7
  have n3 := g.2.2.1.2.2.2
  refine ⟨CR_pR cr ka6 rfl, ⟨G7, ⟨PI_nW (PI_tks hP tks) hNl u30, pq7.1, pq7.2, w0⟩, ⟨by rw [h55]; exact d1, x52⟩, ?_, As_of hsA (nW_f (by decide) (by decide) (by decide)), by rw [e22', h55, h56]; exact e22, CH_fx w0.1 hfx hP pr (own_ne hP pr ch d1 e22) d1 (by rw [h55]) (fun i _ => by rw [h56]) ch⟩, ?_, ka6, fun k hk => ?_, ?_, ?_⟩
  · rw [e22']
    refine AR_fx hfx pr.1 qv _ _ _ (pr.1.1 s hsA).1 (AR_fw F (fun b k y => ?_) _ _ _ ar)
    rcases y with ((y | y) | y) | y
    · rw [y.1, k0]; exact ⟨by decide, fun q => absurd q (by decide), fun _ => by decide⟩
    · rw [y.1, k2]; exact ⟨by decide, fun q => absurd q (by decide), fun _ => by decide⟩
    · rw [y.1, k9]; exact ⟨by decide, fun q => absurd q (by decide), fun _ => by decide⟩
    · rw [y.1, ka]; exact ⟨by decide, fun q => absurd q (by decide), fun _ => by decide⟩
  · obtain ⟨x1, x2, x3, x4, x5⟩ := cx.fx hfx e19' hsh s0 w0.1 n0
    refine ⟨x1.fw F (fun b k y => ?_) rm, ⟨x2.1, x2.2.1, x2.2.2.1, x2.2.2.2.1, x2.2.2.2.2.1, fun b h0 h4 => by rw [Tst_o (fun q => h0 (by rw [q]; exact tzh))]; exact x2.2.2.2.2.2 b h0 h4⟩, fun b hb => by rw [Tst_o (by omega)]; exact x3 b hb, x4, x5⟩
    rcases y with ((y | y) | y) | y
    · exact Or.inr (Or.inl ⟨y.1, by omega⟩)
    · exact Or.inr (Or.inr (Or.inl y))
    · by_cases q : b < hN vh.1
      · exact Or.inr (Or.inr (Or.inr (Or.inl ⟨y.2, by rw [← x3 b q, y.1]; exact Or.inr t9⟩)))
      · exact Or.inl (by omega)
    · exact Or.inl (by rw [y.1]; exact na)
  · rw [vpR_1, hR_putR, if_neg (fun y => hk y.2), (fa6 k).2.2]
  · rw [vpR_1, hR_putR, if_pos ⟨rfl, rfl⟩]
  · rw [nW_c (by decide) (by decide), if_pos rfl, u30, show (0 : Int) + (N.length : Int) = N.length by omega]
    refine NL_congr (NL_fw fp nl (fun y => by omega) (fun b k y hk => by omega)) (fun i i0 i1 => ?_)
    obtain ⟨y1, y2⟩ := nW_v (N := N) (s := s) (U := U4) u30 i0 i1
    rw [y1, y2, kO_fx hfx w0 n3]
    exact ⟨rfl, rfl⟩
end RN2
