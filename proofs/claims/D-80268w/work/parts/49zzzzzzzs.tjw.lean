/-! COMPONENT, 98: a method is read: the invariant *-/
/-- the invariant between methods without the rows' own facts -/
def TJ (R : Nat → Nat) (A : Nat → Int → Nat) (T : Nat → Nat) (w p0 : Int) (v : vT) (S U : tSt) : Prop := GT R A T w p0 v S U ∧ RK v (R 3) (R 4) U w (A 0) ∧ KL v (R 5) (U 3 w) ∧ MT R A T w v U (fun _ => none)
/-- what a method's head may change -/
def Xw (R : Nat → Nat) (a k : Nat) : Prop := Xq (R 0) (R 2) a k ∨ (a = R 0 ∧ k = 8) ∨ ((a = R 6 ∨ a = R 7 ∨ a = R 9) ∧ k = 99)
section TJW
variable {R : Nat → Nat} {A A' : Nat → Int → Nat} {T T' : Nat → Nat} {w s m p0 p0' n p n2 p2 fr : Int} {N : List (Int × Int)} {v v' : vT} {S S' U U' V : tSt} {X : Nat → Nat → Prop} {ov : Int → Option Nat}
theorem RK_mv {u lk : Nat} {B : Int → Nat} (rk : RK v u lk U w B) (f : Fw X v v') (x5 : ¬ X u 0) (xl : ¬ X lk 99) (x7 : ∀ a k, X a k → hK v.1 a ≠ 7) (u3 : U' 3 w = U 3 w) (u5 : ∀ k, 0 ≤ k → k < U 3 w → U' 5 (w * 16 + k) = U 5 (w * 16 + k)) (hp : ∀ k, 0 ≤ k → k < U 3 w → par U' w k = par U w k) : RK v' u lk U' w B := by
  obtain ⟨r1, r2, r3, r4, r5⟩ := rk
  refine ⟨f.kk r1 (by decide), by rw [(f.ff (hK_lt r1 (by decide)) x5).2.2]; exact r2, f.kk r3 (by decide), by rw [(f.cc (hK_lt r3 (by decide)) xl).1, u3]; exact r4, fun k k0 k1 => ?_⟩
  rw [u3] at k1
  obtain ⟨y1, y2, y3, y4⟩ := r5 k k0 k1
  have qq := fun j => f.ff (k := j) (hK_lt y1 (by decide)) (fun y => x7 _ _ y y1)
  rw [hp k k0 k1, u5 k k0 k1, (qq 1).1, (qq 2).2.2, (qq 3).1]
  exact ⟨f.kk y1 (by decide), y2, y3, y4⟩
theorem par_wr {x k j : Int} (wr : WRy x n p n2 p2 fr N U V) : par (up V 9 w j) w k = par U w k := by
  unfold par
  rw [kO_wr wr, up_n (by decide), up_n (by decide), wr.1 7 (by decide), wr.1 8 (by decide)]
theorem TJ_way (tj : TJ R A T w p0 v S U) (px : PX w S U) (wr : WRy (w * 12 + U 9 w) n p n2 p2 fr N U V) (u9 : U 9 w ≠ 12) (hN4 : N.length ≤ 4) (f : Fw (Xw R) v v') (t' : PT v' (R 0) (R 1) (R 2) S') (h55 : S' 55 0 = 0) (h47 : p0 ≤ S' 47 0) {am nm l : Nat} (lm : hN v.1 ≤ am) (ll : hN v.1 ≤ l)
    (tn : TN1 v' nm n) (z1 : n ≠ 0) (k18 : hK v'.1 am = 18) (fl : hI v'.1 am 1 = iI (U 9 w) ∧ hI v'.1 am 2 = iI p ∧ hI v'.1 am 3 = bI (fr ≠ 0) ∧ (n2 = 0 → hR v'.1 am 4 = none) ∧ (n2 ≠ 0 → TXn v' (hR v'.1 am 4) n2 ∧ hI v'.1 am 5 = iI p2) ∧ hR v'.1 am 6 = none ∧ hR v'.1 am 7 = some l ∧ hR v'.1 am 8 = none)
    (nl : NL v' (A 0) l N.length (nK U w N) (nP N)) (ls : vLs v' (R 6) = vLs v (R 6) ++ [some am]) (mp : ∀ t, vMp v' (R 7) t = if t = vTx v' nm ∧ vMp v (R 7) t = none then some am else vMp v (R 7) t)
    (ml : ∃ L, L.Perm (mPar U w) ∧ ML v' (R 9) (insA (insA (insA [] L) (if mO U w n = -1 then [] else [(2, (p, -1))])) (mNs U w N))) : TJ R (Aof A 1 (U 9 w) am) (Tst T l 1) w p0 v' S' (up V 9 w (U 9 w + 1)) := by
  obtain ⟨g, rk, kl, mt⟩ := tj
  have g' := g
  obtain ⟨g1, g2, g3, g4, g5, g6, ⟨g7, g8⟩, g9, ga, gb, gc, gd, ge, gf, gg⟩ := g'
  obtain ⟨⟨hP, pr, qv, w0⟩, ⟨pl, pk⟩, ⟨s52, s49⟩, p5⟩ := px
  have n3 := g3.2.2.2
  have b9 := QV_b qv (f := 9) (c := 12) rfl rfl rfl w
  obtain ⟨⟨m1, m2, m3⟩, ⟨m4, m5, m6⟩, ⟨t4, t6, ne46, ne57⟩, m7⟩ := mt
  have k0 := g1.w0.1
  have k2 := g1.w0.2.1
  have k5 := g3.2.2.1
  have k7 := m5.1
  have t7 : T (R 7) = 0 := g5.1 _ (by rw [k7]; decide) (by rw [k7]; decide) (by rw [k7]; decide)
  have t0 : T (R 0) = 0 := g5.1 _ (by rw [k0]; decide) (by rw [k0]; decide) (by rw [k0]; decide)
  have t2 : T (R 2) = 0 := g5.1 _ (by rw [k2]; decide) (by rw [k2]; decide) (by rw [k2]; decide)
  have t9 : T (R 9) = 3 := g6.2.2.2.2.2.2.1.2.1
  have tl : T l = 0 := g5.2 l ll
  have k9 : hK v.1 (R 9) = 4 := by obtain ⟨L, a, _⟩ := g9; exact a.1.choose_spec.1.1
  have xm : XM v T (hN v.1) (Xw R) := fun a k y _ => by
    rcases y with (y | y) | y | ⟨y | y | y, z⟩
    · exact Or.inl (Or.inl (by rw [y.1]; exact k0))
    · exact Or.inr (Or.inl (by rw [y.1]; exact k2))
    · exact Or.inl (Or.inl (by rw [y.1]; exact k0))
    · exact Or.inr (Or.inr (Or.inl ⟨z, by rw [y, t6]; decide⟩))
    · exact Or.inl (Or.inr (Or.inl (by rw [y]; exact k7)))
    · exact Or.inr (Or.inr (Or.inl ⟨z, by rw [y, t9]; decide⟩))
  have ek : EK U (up V 9 w (U 9 w + 1)) := fun f hf => by rw [up_n (by omega), wr.1 f (by omega)]
  have ht : ∀ a, T a ≠ 0 → Tst T l 1 a = T a := fun a ha => Tst_o (fun e => ha (by rw [e]; exact tl))
  have e0 : Aof A 1 (U 9 w) am 0 = A 0 := Aof_f (by decide)
  have e3 : Aof A 1 (U 9 w) am 3 = A 3 := Aof_f (by decide)
  have u3 : up V 9 w (U 9 w + 1) 3 = U 3 := by rw [up_n (by decide), wr.1 3 (by decide)]
  have u9' : up V 9 w (U 9 w + 1) 9 w = U 9 w + 1 := up_s
  have ko : ∀ y a, kO (up V 9 w (U 9 w + 1)) w y a = kO U w y a := fun y a => kO_wr wr
  have n5 : ∀ {a n k : Nat}, hK v.1 a = n → n ≠ 0 → (n ≠ 2 ∧ n ≠ 6 ∧ n ≠ 18) → n ≠ 3 → n ≠ 4 → n ≠ 22 → ¬ Xw R a k := fun {a n k} e h1 h2 h3 h4 h5 => cc_m xm g5.1 e h1 h2 h3 (fun q => absurd q h4) h5 (Or.inl (by have := hK_lt e h1; omega))
  have x45 : ∀ a, a = R 4 ∨ a = R 5 → ¬ Xw R a 99 := fun a ha y => by
    have r3 := rk.2.2.1
    rcases ha with rfl | rfl
    · rcases y with (y | y) | y | ⟨y | y | y, z⟩
      · omega
      · omega
      · omega
      · exact ne46 y
      · rw [y, k7] at r3; exact absurd r3 (by decide)
      · rw [y, t9] at t4; exact absurd t4 (by decide)
    · have t5 : T (R 5) = 0 := g5.1 _ (by rw [k5]; decide) (by rw [k5]; decide) (by rw [k5]; decide)
      rcases y with (y | y) | y | ⟨y | y | y, z⟩
      · omega
      · omega
      · omega
      · rw [y, t6] at t5; exact absurd t5 (by decide)
      · exact ne57 y
      · rw [y, t9] at t5; exact absurd t5 (by decide)
  have km : KMp v' (R 5) (Aof A 1 (U 9 w) am 0) (up V 9 w (U 9 w + 1)) w p0 := by
    obtain ⟨q1, q2, q3, q4⟩ := KMp_fw f g3 (x45 _ (Or.inr rfl))
    refine ⟨fun t ok ne p hp => by rw [e0, ko]; exact q1 t ok ne p hp, fun k h0 h1 => by rw [e0]; rw [u3] at h1; exact q2 k h0 h1, q3, by rw [u3]; exact q4⟩
  have mp' : ∃ L, ML v' (R 9) (insA [] L) ∧ L.Perm (mPar (up V 9 w (U 9 w + 1)) w) := by
    obtain ⟨L, l1, l2⟩ := ml
    refine ⟨L ++ ((if mO U w n = -1 then [] else [(2, (p, -1))]) ++ mNs U w N), by rw [insA_app, insA_app]; exact l2, ?_⟩
    have a1 : tCat (mKind (up V 9 w (U 9 w + 1)) w) (up V 9 w (U 9 w + 1) 3 w - 4).toNat 4 = tCat (mKind U w) (U 3 w - 4).toNat 4 := by
      rw [u3]
      refine tCat_congr _ _ (fun k a b => ?_)
      unfold mKind
      rw [ko, ko, up_n (by decide), up_n (by decide), up_n (by decide), up_n (by decide), wr.1 4 (by decide), wr.1 5 (by decide), wr.1 7 (by decide), wr.1 8 (by decide)]
    have a2 : tCat (mPm (up V 9 w (U 9 w + 1)) w) (up V 9 w (U 9 w + 1) 9 w).toNat 0 = tCat (mPm U w) (U 9 w).toNat 0 ++ ((if mO U w n = -1 then [] else [(2, (p, -1))]) ++ mNs U w N) := by
      rw [u9', show (U 9 w + 1).toNat = (U 9 w).toNat + 1 by omega, tCat_sn, show (0 : Int) + ((U 9 w).toNat : Int) = U 9 w by omega, mPm_new wr b9]
      congr 1
      exact tCat_congr _ _ (fun k a b => mPm_old wr qv a (by omega))
    have a3 : tCat (fun k => mPs (up V 9 w (U 9 w + 1)) w (w * 120 + k)) (up V 9 w (U 9 w + 1) 19 w).toNat 0 = tCat (fun k => mPs U w (w * 120 + k)) (U 19 w).toNat 0 := by
      rw [ek 19 (by decide)]
      exact tCat_congr _ _ (fun k a b => mPs_ek ek (fun e => ko _ _) (fun i i0 i1 => ko _ _) (fun c c0 c1 i i0 i1 => ko _ _))
    unfold mPar at l1 ⊢
    rw [a1, a2, a3]
    refine List.Perm.trans (List.Perm.append_right _ l1) ?_
    rw [List.append_assoc, List.append_assoc, List.append_assoc]
    refine List.Perm.append_left _ (List.Perm.append_left _ ?_)
    exact List.perm_append_comm
  have kl' : hK v'.1 l = 4 := nl.1
  refine ⟨?_, ?_, ?_, ?_⟩
  · refine GT_mv g pr.1 qv ek f xm (fun k hk y => ?_) (fun a ha n9 y => ?_) (fun a k hk y => ?_) (Aof_f (by decide)) e3 (Aof_f (by decide)) (Aof_f (by decide)) (fun m h0 h1 => Aof_o (by omega)) (Or.inl (fun y a => by rw [e0, ko])) t' h55 km h47 (Tst_g (TG_fw f g5) kl') ht mp'
    · rcases y with (y | y) | y | y
      · omega
      · omega
      · omega
      · omega
    · rcases y with (y | y) | y | ⟨y | y | y, _⟩
      · omega
      · omega
      · omega
      · rw [y, t6] at ha; omega
      · rw [y, t7] at ha; omega
      · exact n9 y
    · rcases y with (y | y) | y | y
      · rw [y.1, t0]; decide
      · rw [y.1, t2]; decide
      · rw [y.1, t0]; decide
      · exact absurd y.2 hk
  · rw [e0]
    exact RK_mv rk f (n5 rk.1 (by decide) (by decide) (by decide) (by decide) (by decide)) (x45 _ (Or.inl rfl)) (fun a k y e => n5 e (by decide) (by decide) (by decide) (by decide) (by decide) y) (by rw [u3]) (fun k _ _ => by rw [up_n (by decide), wr.1 5 (by decide)]) (fun k _ _ => par_wr wr)
  · rw [u3]
    exact KL_fw f k5 (x45 _ (Or.inr rfl)) kl
  · have r3 := fun j => f.ff (k := j) (hK_lt g2.2.2.1 (by decide)) (n5 g2.2.2.1 (by decide) (by decide) (by decide) (by decide) (by decide))
    refine ⟨⟨by rw [(r3 2).2.2]; exact m1, f.kk m2 (by decide), ?_⟩, ⟨by rw [(r3 3).2.2]; exact m4, ⟨f.kk k7 (by decide), fun t ok => ?_⟩, ?_⟩, ⟨by rw [ht _ (by omega)]; exact t4, by rw [ht _ (by omega)]; exact t6, ne46, ne57⟩, fun m h0 h1 => ?_⟩
    · rw [ls, m3, u9', rowL_snoc b9.1, show (0 : Int) + U 9 w = U 9 w by omega, Aof_s]
      congr 1
      exact (rowL_congr (fun k a b => Aof_o (by omega))).symm
    · rw [mp t, m5.2 t ok, mO_wr wr b9.1]
      have mb := mO_b (U := U) (w := w) (x := wN t) b9
      have tx : t = vTx v' nm ↔ wN t = n := ⟨fun e => by rw [e]; exact tn.2.1, fun e => (wN_inj ok.2 tn.2.2.2).mp (by rw [e]; exact tn.2.1.symm)⟩
      by_cases e : mO U w (wN t) = -1
      · rw [e, if_pos rfl]
        by_cases e2 : wN t = n
        · rw [if_pos e2, if_pos ⟨tx.mpr e2, rfl⟩]
          unfold optA
          rw [if_neg (by omega), Aof_s]
        · rw [if_neg e2, if_neg (fun z => e2 (tx.mp z.1))]
          rfl
      · rw [if_neg e, if_neg (fun z => by rw [optA_s e] at z; cases z.2)]
        exact (optA_cg (fun _ => Aof_o (by omega))).symm
    · rw [u9']
      exact KL_add mp tn.2.2 (fun e => z1 (by rw [← tn.2.1, e]; rfl)) m6
    · rw [u9'] at h1
      by_cases e : m = U 9 w
      · obtain ⟨w1, w2, w3, w4, w5, w6, w7⟩ := wr.2.2.2.1
        obtain ⟨l1, l2, l3, l4, l5, l6, l7, l8⟩ := fl
        unfold MF
        rw [e, Aof_s, up_n (by decide), up_n (by decide), up_n (by decide), up_n (by decide), up_n (by decide), up_n (by decide), up_n (by decide), up_n (by decide), w2, w3, w5, w6, w7, e0]
        refine ⟨k18, l1, l2, l3, l4, fun z => by rw [w4 z]; exact l5 z, l6, ⟨l, l7, Tst_s, ?_⟩, l8⟩
        refine NL_cg nl (fun i i0 i1 => ?_)
        have y := wr.2.2.2.2 i i0 i1
        refine ⟨?_, ?_⟩
        · rw [ko, y.1, y.2]; rfl
        · rw [y.2]; rfl
      · have h1' : m < U 9 w := by omega
        have b15 := QV_b qv (f := 15) (c := 4) rfl rfl rfl (w * 12 + m)
        have k18' := (m7 m h0 h1').1
        exact MF_mv (m7 m h0 h1') f xm (fun k y => by
          rcases y with (y | y) | y | ⟨y | y | y, _⟩
          · rw [y.1, k0] at k18'; exact absurd k18' (by decide)
          · rw [y.1, k2] at k18'; exact absurd k18' (by decide)
          · rw [y.1, k0] at k18'; exact absurd k18' (by decide)
          · rw [y, m2] at k18'; exact absurd k18' (by decide)
          · rw [y, k7] at k18'; exact absurd k18' (by decide)
          · rw [y, k9] at k18'; exact absurd k18' (by decide)) g5.1 ht (Aof_o e) (by rw [e3]) (fun j hj => by rw [up_n (by omega), wr.2.1 j _ hj (by omega)]) (fun i i0 i1 => by rw [up_n (by decide), up_n (by decide)]; exact ⟨wr.2.2.1 16 _ (Or.inl rfl) (by omega), wr.2.2.1 17 _ (Or.inr rfl) (by omega)⟩) (fun i i0 i1 => by rw [e0, ko])
/-- new cells alone -/
theorem TJ_0 (tj : TJ R A T w p0 v S U) (pr : PR w U) (qv : QV U) (f : Fw (fun _ _ => False) v v') : TJ R A T w p0 v' S U := by
  obtain ⟨g, rk, kl, mt⟩ := tj
  have g' := g
  obtain ⟨g1, g2, g3, g4, g5, g6, ⟨g7, g8⟩, ⟨L, l1, l2⟩, _⟩ := g'
  obtain ⟨⟨m1, m2, m3⟩, ⟨m4, m5, m6⟩, mz, m7⟩ := mt
  have xm : XM v T (hN v.1) (fun _ _ => False) := fun a k y _ => y.elim
  have r3 := fun j => f.ff (k := j) (hK_lt g2.2.2.1 (by decide)) (fun y => y)
  refine ⟨GT_mv (U' := U) g pr.1 qv (fun _ _ => rfl) f xm (fun _ _ y => y) (fun _ _ _ y => y) (fun _ _ _ y => y.elim) rfl rfl rfl rfl (fun _ _ _ => rfl) (Or.inl (fun _ _ => rfl)) (PT_0 f g1) g8 (KMp_fw f g3 (fun y => y)) g4 (TG_fw f g5) (fun _ _ => rfl) ⟨L, ML_fw f l1 (fun y => y) (fun _ _ y => y.elim), l2⟩, RK_mv rk f (fun y => y) (fun y => y) (fun _ _ y => y.elim) rfl (fun _ _ _ => rfl) (fun _ _ _ => rfl), KL_fw f g3.2.2.1 (fun y => y) kl, ⟨⟨by rw [(r3 2).2.2]; exact m1, f.kk m2 (by decide), by rw [(f.cc (hK_lt m2 (by decide)) (fun y => y)).1]; exact m3⟩, ⟨by rw [(r3 3).2.2]; exact m4, ⟨f.kk m5.1 (by decide), fun t ok => by rw [(f.cc (hK_lt m5.1 (by decide)) (fun y => y)).2.1]; exact m5.2 t ok⟩, KL_fw f m5.1 (fun y => y) m6⟩, mz, fun m h0 h1 => MF_mv (m7 m h0 h1) f xm (fun _ y => y) g5.1 (fun _ _ => rfl) rfl rfl (fun _ _ => rfl) (fun _ _ _ => ⟨rfl, rfl⟩) (fun _ _ _ => rfl)⟩⟩
end TJW
