/-! COMPONENT, 95: a kind is read: the invariant *-/
/-- what may change between methods -/
def Xo (R : Nat → Nat) (a k : Nat) : Prop := (a = R 0 ∧ (3 ≤ k ∧ k ≤ 6 ∨ k = 8 ∨ k = 9 ∨ 14 ≤ k ∧ k ≤ 16)) ∨ (a = R 2 ∧ k = 6) ∨ (k = 99 ∧ ∃ i, 4 ≤ i ∧ i ≤ 14 ∧ a = R i)
/-- thrown at p at the top level -/
def WO (R : Nat → Nat) (v v' : vT) (S : tSt) (n s p : Int) : Prop := Fw (Xo R) v v' ∧ RM (R 9) v v' (300 * (S 48 0 - S 47 0) + n) (2000 * (S 48 0 - S 47 0) + s) ∧ hI v'.1 (R 2) 6 = iI p ∧ vCp v' (R 9) ≤ 6000
section TIK
variable {R : Nat → Nat} {A A' : Nat → Int → Nat} {T T' : Nat → Nat} {w s m p0 p0' x1 p1 x2 p2 q : Int} {v v' : vT} {S S' U U' : tSt} {X : Nat → Nat → Prop} {ov : Int → Option Nat}
theorem par_rg (n3 : 4 ≤ U 3 w ∧ U 3 w ≤ 16) {k : Int} : -1 ≤ par U w k ∧ par U w k < U 3 w := by
  unfold par
  have := kO_b (U := U) (w := w) (x := U 7 (w * 16 + k)) (a := U 8 (w * 16 + k)) n3
  repeat' split
  all_goals omega
theorem optA_cg {B B' : Int → Nat} {k : Int} (h : k ≠ -1 → B' k = B k) : optA B' k = optA B k := by
  unfold optA
  by_cases e : k = -1
  · rw [if_pos e, if_pos e]
  · rw [if_neg e, if_neg e, h e]
/-- addresses with one more of family f0 -/
def Aof (A : Nat → Int → Nat) (f0 : Nat) (k : Int) (a : Nat) (f : Nat) (i : Int) : Nat := if f = f0 ∧ i = k then a else A f i
theorem Aof_f {f0 f a : Nat} {k : Int} (h : f ≠ f0) : Aof A f0 k a f = A f := by
  funext i
  exact if_neg (fun z => h z.1)
theorem Aof_s {f0 a : Nat} {k : Int} : Aof A f0 k a f0 k = a := if_pos ⟨rfl, rfl⟩
theorem Aof_o {f0 f a : Nat} {k i : Int} (h : i ≠ k) : Aof A f0 k a f i = A f i := if_neg (fun z => h z.2)
theorem ML_len (g : ∃ L, ML v (R 9) (insA [] L) ∧ L.Perm (mPar U w)) (qv : QV U) : ∃ L, ML v (R 9) (insA [] L) ∧ L.Perm (mPar U w) ∧ L.length ≤ 2600 ∧ (insA [] L).length = L.length := by
  obtain ⟨L, a, b⟩ := g
  have := mPar_len (w := w) qv
  refine ⟨L, a, b, by rw [b.length_eq]; exact this, by rw [insA_len]; simp⟩
theorem GT_cp (g : GT R A T w p0 v S U) (qv : QV U) : vCp v (R 9) ≤ 5210 := by
  obtain ⟨L, l1, l2, l3, l4⟩ := ML_len (R := R) g.2.2.2.2.2.2.2.1 qv
  have := l1.2
  rw [l4] at this
  omega
/-- behind a kind: rows U' = nkU .., view v' -/
theorem TI_kind (ti : TI R A T w p0 v S U) {n1 nk : Nat} (hU' : U' = nkU w (w * 16 + U 3 w) x1 p1 x2 p2 q U) (u3 : U 3 w ≠ 16) (hq : S 49 0 ≤ q ∧ p1 ≤ q ∧ p2 ≤ q) (f : Fw (fun a k => Xq (R 0) (R 2) a k ∨ ((a = R 4 ∨ a = R 5 ∨ a = R 9) ∧ k = 99)) v v') (t' : PT v' (R 0) (R 1) (R 2) S') (px : PX w S' U') (h55 : S' 55 0 = 0) (h47 : q < S' 47 0)
    (t1 : TN1 v' n1 x1) (z1 : x1 ≠ 0) (k7 : hK v'.1 nk = 7) (fl : hR v'.1 nk 0 = some n1 ∧ hI v'.1 nk 1 = iI (U 3 w) ∧ hR v'.1 nk 2 = some (A 0 (if kO U w x2 p2 = -1 then 1 else kO U w x2 p2)) ∧ hI v'.1 nk 3 = iI p1) (ls : vLs v' (R 4) = rowL (A 0) 0 (U 3 w) ++ [some nk])
    (mp : ∀ t, vMp v' (R 5) t = if t = vTx v' n1 ∧ vMp v (R 5) t = none then some nk else vMp v (R 5) t) (ml : ∃ L, L.Perm (mPar U w) ∧ ML v' (R 9) (insA (insA (insA [] L) (if kO U w x2 p2 = -1 then [(1, (p2, -1))] else [])) (if kO U w x1 p1 ≠ -1 then [(2, (p1, -1))] else []))) (pq : p0 ≤ S 47 0 ∧ S 47 0 ≤ q) : TI R (Aof A 0 (U 3 w) nk) T w (q + 1) v' S' U' := by
  obtain ⟨g, rk, kl, mt, px0⟩ := ti
  have g' := g
  obtain ⟨g1, g2, g3, g4, g5, g6, ⟨g7, g8⟩, g9, ga, gb, gc, gd, ge, gf, gg⟩ := g'
  obtain ⟨⟨hP, pr, qv, w0⟩, ⟨pl, pk⟩, ⟨s52, s49⟩, p5⟩ := px0
  have n3 := g3.2.2.2
  obtain ⟨⟨m1, m2, m3⟩, ⟨m4, m5, m6⟩, ⟨t4, t6, ne46, ne57⟩, m7⟩ := mt
  have k0 := g1.w0.1
  have k2 := g1.w0.2.1
  have k5 := g3.2.2.1
  have t5 : T (R 5) = 0 := g5.1 _ (by rw [k5]; decide) (by rw [k5]; decide) (by rw [k5]; decide)
  have t0 : T (R 0) = 0 := g5.1 _ (by rw [k0]; decide) (by rw [k0]; decide) (by rw [k0]; decide)
  have t2 : T (R 2) = 0 := g5.1 _ (by rw [k2]; decide) (by rw [k2]; decide) (by rw [k2]; decide)
  have t9 : T (R 9) = 3 := g6.2.2.2.2.2.2.1.2.1
  have k9 : hK v.1 (R 9) = 4 := by obtain ⟨L, a, _⟩ := g9; exact a.1.choose_spec.1.1
  have xm : XM v T (hN v.1) (fun a k => Xq (R 0) (R 2) a k ∨ ((a = R 4 ∨ a = R 5 ∨ a = R 9) ∧ k = 99)) := fun a k y _ => by
    rcases y with (y | y) | ⟨y | y | y, z⟩
    · exact Or.inl (Or.inl (by rw [y.1]; exact k0))
    · exact Or.inr (Or.inl (by rw [y.1]; exact k2))
    · exact Or.inr (Or.inr (Or.inl ⟨z, by rw [y, t4]; decide⟩))
    · exact Or.inl (Or.inr (Or.inl (by rw [y]; exact k5)))
    · exact Or.inr (Or.inr (Or.inl ⟨z, by rw [y, t9]; decide⟩))
  have ek : EK U U' := by rw [hU']; exact nkU_ek
  have e0 : ∀ k, k ≠ -1 → k < U 3 w → Aof A 0 (U 3 w) nk 0 k = A 0 k := fun k _ h => Aof_o (by omega)
  have ko : ∀ y a, a ≤ q → optA (Aof A 0 (U 3 w) nk 0) (kO U' w y a) = optA (A 0) (kO U w y a) := fun y a h => by
    rw [hU', kO_nk (by omega) h]
    exact optA_cg (fun e => e0 _ e (kO_b n3).2)
  have u3' : U' 3 w = U 3 w + 1 := by rw [hU']; exact nkU_3
  have u9 : U' 9 = U 9 := by rw [hU']; exact nkU_o (by decide)
  have e1 : Aof A 0 (U 3 w) nk 1 = A 1 := Aof_f (by decide)
  have e3 : Aof A 0 (U 3 w) nk 3 = A 3 := Aof_f (by decide)
  have kA : ∀ k, 0 ≤ k → k < U 3 w → hK v'.1 (A 0 k) = 7 := fun k a b => f.kk (g3.2.1 k a b) (by decide)
  have x5 : ¬ (Xq (R 0) (R 2) (R 3) 0 ∨ ((R 3 = R 4 ∨ R 3 = R 5 ∨ R 3 = R 9) ∧ (0 : Nat) = 99)) := cc_m xm g5.1 g2.2.2.1 (by decide) (by decide) (by decide) (fun y => absurd y (by decide)) (by decide) (Or.inr (by decide))
  have km : KMp v' (R 5) (Aof A 0 (U 3 w) nk 0) U' w (q + 1) := by
    refine ⟨fun t ok ne p hp => ?_, fun k k0 k1 => ?_, f.kk k5 (by decide), by rw [u3']; omega⟩
    · rw [mp t, g3.1 t ok ne p (by omega), hU', kO_nk2 (by omega) (by omega)]
      have tx : t = vTx v' n1 ↔ wN t = x1 := by
        refine ⟨fun e => by rw [e]; exact t1.2.1, fun e => (wN_inj ok.2 t1.2.2.2).mp (by rw [e]; exact t1.2.1.symm)⟩
      by_cases e : kO U w (wN t) p = -1
      · rw [e, if_pos rfl]
        by_cases e2 : wN t = x1
        · rw [if_pos e2, if_pos ⟨tx.mpr e2, rfl⟩]
          unfold optA
          rw [if_neg (by omega), Aof_s]
        · rw [if_neg e2, if_neg (fun z => e2 (tx.mp z.1))]
          rfl
      · have b := kO_b (U := U) (w := w) (x := wN t) (a := p) n3
        rw [if_neg e, if_neg (fun z => by rw [optA_s e] at z; cases z.2)]
        exact (optA_cg (fun _ => e0 _ e b.2)).symm
    · by_cases e : k = U 3 w
      · rw [e, Aof_s]; exact k7
      · rw [Aof_o e]; exact kA k k0 (by rw [u3'] at k1; omega)
  have mp' : ∃ L, ML v' (R 9) (insA [] L) ∧ L.Perm (mPar U' w) := by
    obtain ⟨L, l1, l2⟩ := ml
    refine ⟨L ++ ((if kO U w x2 p2 = -1 then [(1, (p2, -1))] else []) ++ (if kO U w x1 p1 ≠ -1 then [(2, (p1, -1))] else [])), by rw [insA_app, insA_app]; exact l2, ?_⟩
    have a1 : tCat (mKind U' w) (U' 3 w - 4).toNat 4 = tCat (mKind U w) (U 3 w - 4).toNat 4 ++ ((if kO U w x1 p1 ≠ -1 then [(2, (p1, -1))] else []) ++ (if kO U w x2 p2 = -1 then [(1, (p2, -1))] else [])) := by
      rw [u3', show (U 3 w + 1 - 4).toNat = (U 3 w - 4).toNat + 1 by omega, tCat_sn, show (4 : Int) + ((U 3 w - 4).toNat : Int) = U 3 w by omega, hU', mKind_nw (by omega) hq.2.1 hq.2.2]
      congr 1
      refine tCat_congr _ _ (fun k a b => mKind_nk (by omega) (by omega) ?_ ?_)
      · have := p5 k a (by omega); omega
      · have := pk.2.1 k a (by omega); omega
    have a2 : tCat (mPm U' w) (U' 9 w).toNat 0 = tCat (mPm U w) (U 9 w).toNat 0 := by
      rw [u9]
      refine tCat_congr _ _ (fun k a b => ?_)
      have l2 := pl.2 k a (by omega)
      unfold mPm mO
      rw [hU', nkU_o (f := 9) (by decide), nkU_o (f := 10) (by decide), nkU_o (f := 11) (by decide), nkU_o (f := 15) (by decide), nkU_o (f := 16) (by decide), nkU_o (f := 17) (by decide)]
      congr 1
      refine tCat_congr _ _ (fun i i0 i1 => ?_)
      have := l2 i i0 (by omega)
      rw [kO_nk (by omega) (by omega)]
    have a3 : tCat (fun k => mPs U' w (w * 120 + k)) (U' 19 w).toNat 0 = tCat (fun k => mPs U w (w * 120 + k)) (U 19 w).toNat 0 := by
      rw [ek 19 (by decide)]
      refine tCat_congr _ _ (fun k a b => ?_)
      have hs : As w U (w * 120 + k) := ⟨by omega, by omega⟩
      obtain ⟨l1, l2, l3⟩ := pl.1 _ hs
      have kk : ∀ y a, a ≤ S 49 0 → kO U' w y a = kO U w y a := fun y a h => by rw [hU']; exact kO_nk (by omega) (by omega)
      exact mPs_ek ek (fun e => kk _ _ (l1 e)) (fun i i0 i1 => kk _ _ (l2 i i0 i1)) (fun c c0 c1 i i0 i1 => kk _ _ (l3 c c0 c1 i i0 i1))
    unfold mPar at l1 ⊢
    rw [a1, a2, a3, List.append_assoc]
    refine List.Perm.trans (List.Perm.append_right _ l1) ?_
    rw [List.append_assoc]
    refine List.Perm.append_left _ (List.Perm.trans List.perm_append_comm ?_)
    exact List.Perm.append_right _ List.perm_append_comm
  have ht : ∀ a, T a ≠ 0 → T a = T a := fun _ _ => rfl
  refine ⟨?_, ?_, ?_, ?_, px⟩
  · refine GT_mv g pr.1 qv ek f xm (fun k hk y => ?_) (fun a ha n9 y => ?_) (fun a k hk y => ?_) (Aof_f (by decide)) e3 (Aof_f (by decide)) (Aof_f (by decide)) (fun m _ _ => by rw [e1]) (Or.inr ⟨pl, fun y a h => ko y a (by omega)⟩) t' h55 km (by omega) (TG_fw f g5) (fun _ _ => rfl) mp'
    · rcases y with (y | y) | y
      · omega
      · omega
      · omega
    · rcases y with (y | y) | ⟨y | y | y, _⟩
      · omega
      · omega
      · rw [y, t4] at ha; omega
      · rw [y, t5] at ha; omega
      · exact n9 y
    · rcases y with (y | y) | y
      · rw [y.1, t0]; decide
      · rw [y.1, t2]; decide
      · exact absurd y.2 hk
  · obtain ⟨r1, r2, r3, r4, r5⟩ := rk
    refine ⟨f.kk r1 (by decide), by rw [(f.ff (hK_lt r1 (by decide)) x5).2.2]; exact r2, f.kk r3 (by decide), ?_, fun k k0 k1 => ?_⟩
    · rw [ls, u3', rowL_snoc (by omega), show (0 : Int) + U 3 w = U 3 w by omega, Aof_s]
      congr 1
      exact (rowL_congr (fun k a b => Aof_o (by omega))).symm
    · by_cases e : k = U 3 w
      · rw [e, Aof_s, hU', par_nw n3.1 hq.2.2, nkU_v.2.1]
        have b := kO_b (U := U) (w := w) (x := x2) (a := p2) n3
        have b2 : (if kO U w x2 p2 = -1 then 1 else kO U w x2 p2) < U 3 w ∧ (if kO U w x2 p2 = -1 then 1 else kO U w x2 p2) ≠ -1 := by split <;> omega
        refine ⟨k7, fl.2.1, fl.2.2.2, ?_⟩
        rw [optA_s b2.2, Aof_o (by omega)]
        exact fl.2.2.1
      · have k1' : k < U 3 w := by rw [u3'] at k1; omega
        obtain ⟨y1, y2, y3, y4⟩ := r5 k k0 k1'
        have qq := fun j => f.ff (k := j) (hK_lt y1 (by decide)) (cc_m xm g5.1 y1 (by decide) (by decide) (by decide) (fun y => absurd y (by decide)) (by decide) (Or.inr (by decide)))
        rw [Aof_o e, hU', par_nk n3.1 ⟨k0, k1'⟩ (fun z => by have := pk.2.1 k z k1'; omega), nkU_k (f := 5) (by omega) (by omega), (qq 1).1, (qq 2).2.2, (qq 3).1]
        refine ⟨f.kk y1 (by decide), y2, y3, ?_⟩
        rw [y4]
        exact (optA_cg (fun z => e0 _ z (par_rg n3).2)).symm
  · rw [u3']
    exact KL_add mp t1.2.2 (fun e => z1 (by rw [← t1.2.1, e]; rfl)) kl
  · have c6 : vLs v' (R 6) = vLs v (R 6) := (f.cc (hK_lt m2 (by decide)) (fun y => by
      rcases y with (y | y) | ⟨y | y | y, _⟩
      · omega
      · omega
      · exact ne46 y.symm
      · rw [y, k5] at m2; exact absurd m2 (by decide)
      · rw [y, t9] at t6; exact absurd t6 (by decide))).1
    have x7 : ¬ (Xq (R 0) (R 2) (R 7) 99 ∨ ((R 7 = R 4 ∨ R 7 = R 5 ∨ R 7 = R 9) ∧ (99 : Nat) = 99)) := fun y => by
      have k7' := m5.1
      rcases y with (y | y) | ⟨y | y | y, _⟩
      · omega
      · omega
      · have := g5.1 (R 7) (by rw [k7']; decide) (by rw [k7']; decide) (by rw [k7']; decide); rw [y, t4] at this; omega
      · exact ne57 y.symm
      · have := g5.1 (R 7) (by rw [k7']; decide) (by rw [k7']; decide) (by rw [k7']; decide); rw [y, t9] at this; omega
    have c7 : vMp v' (R 7) = vMp v (R 7) := (f.cc (hK_lt m5.1 (by decide)) x7).2.1
    have r3 := fun j => f.ff (k := j) (hK_lt g2.2.2.1 (by decide)) (cc_m xm g5.1 g2.2.2.1 (by decide) (by decide) (by decide) (fun y => absurd y (by decide)) (by decide) (Or.inr (by decide)))
    refine ⟨⟨by rw [(r3 2).2.2]; exact m1, f.kk m2 (by decide), by rw [c6, e1, u9]; exact m3⟩, ⟨by rw [(r3 3).2.2]; exact m4, ⟨f.kk m5.1 (by decide), fun t ok => ?_⟩, by rw [u9]; exact KL_fw f m5.1 x7 m6⟩, ⟨t4, t6, ne46, ne57⟩, fun m h0 h1 => ?_⟩
    · rw [c7, e1, m5.2 t ok]
      unfold mO
      rw [hU', nkU_o (f := 9) (by decide), nkU_o (f := 10) (by decide)]
    · rw [u9] at h1
      have l2 := pl.2 m h0 h1
      have k18 := (m7 m h0 h1).1
      exact MF_mv (m7 m h0 h1) f xm (fun k y => by
        rcases y with (y | y) | ⟨y | y | y, _⟩
        · rw [y.1, k0] at k18; exact absurd k18 (by decide)
        · rw [y.1, k2] at k18; exact absurd k18 (by decide)
        · rw [y, rk.2.2.1] at k18; exact absurd k18 (by decide)
        · rw [y, k5] at k18; exact absurd k18 (by decide)
        · rw [y, k9] at k18; exact absurd k18 (by decide)) g5.1 ht (by rw [e1]) (by rw [e3]) (fun j hj => by rw [hU', nkU_o (by omega)]) (fun i i0 i1 => by rw [hU', nkU_o (f := 16) (by decide), nkU_o (f := 17) (by decide)]; exact ⟨rfl, rfl⟩) (fun i i0 i1 => ko _ _ (by have := l2 i i0 i1; omega))
end TIK
