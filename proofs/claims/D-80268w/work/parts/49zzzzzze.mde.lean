/-! COMPONENT, 72: a try in hand, its catches *-/
/-- a try in hand, behind a block of its own -/
def TF (v : vT) (A : Nat → Int → Nat) (T : Nat → Nat) (U : tSt) (w s : Int) (a e : Nat) (o : Option Nat) (l5 l6 l7 l9 : Nat) (N : List (Int × Int)) (n : Int) : Prop :=
  (hK v.1 a = 36 ∧ hR v.1 a 5 = some l5 ∧ hR v.1 a 6 = some l6 ∧ hR v.1 a 7 = some l7 ∧ hR v.1 a 8 = some (A 3 (U 27 s)) ∧ hR v.1 a 9 = some l9 ∧ hR v.1 a 10 = none) ∧ (T l5 = 4 ∧ T l6 = 4 ∧ T l7 = 4 ∧ T l9 = 4) ∧ (l9 ≠ l5 ∧ l9 ≠ l6 ∧ l9 ≠ l7 ∧ l7 ≠ l5 ∧ l7 ≠ l6) ∧ TN v l5 l6 N ∧ (hK v.1 l7 = 4 ∧ vLs v l7 = []) ∧ (hK v.1 l9 = 4 ∧ vLs v l9 = rowL (A 4) (4 * s) (U 33 s)) ∧ AO v e o none none false (some a) ∧
  (n ≤ U 33 s ∧ ∀ k, 0 ≤ k → k < n → hR v.1 (A 4 (4 * s + k)) 3 = some (A 3 (U 34 (4 * s + k))) ∧ hK v.1 (A 4 (4 * s + k)) = 22 ∧ Ab w U (U 34 (4 * s + k))) ∧ (U 20 s = 9 ∧ Ab w U (U 27 s) ∧ U 29 s = -1) ∧ (U 30 s = N.length ∧ ∀ i : Int, 0 ≤ i → i < N.length → U 31 (4 * s + i) = (N.getD i.toNat (0, 0)).1 ∧ U 32 (4 * s + i) = (N.getD i.toNat (0, 0)).2)
section MDE
variable {r a e e2 ca lk l5 l6 l7 l9 : Nat} {h : am_H} {R : Nat → Nat} {A A' Ah : Nat → Int → Nat} {T T' Th : Nat → Nat} {w s b0 p0 x p c d n m : Int} {v v' vh : vT} {S S' U U' Uh : tSt} {o : Option Nat} {N M : List (Int × Int)} {L0 : List tMi} {X : Nat → Nat → Prop}
theorem TF_go (tf : TF v A T U w s a e o l5 l6 l7 l9 N n) (f : Fw X v v') (hx : ∀ b k, X b k → b ≠ a ∧ b ≠ e ∧ (k = 99 → b ≠ l5 ∧ b ≠ l6 ∧ b ≠ l7 ∧ b ≠ l9) ∧ (hK v.1 b = 22 → k ≠ 3) ∧ hK v.1 b ≠ 8 ∧ hK v.1 b ≠ 9 ∧ (k = 99 → hK v.1 b ≠ 10))
    (a3 : ∀ b, Ab w U b → A' 3 b = A 3 b) (a4 : ∀ k, 0 ≤ k → k < U 33 s → A' 4 (4 * s + k) = A 4 (4 * s + k)) (ht : ∀ b, b < hN v.1 → T' b = T b) (h33 : U 33 s ≤ 4) (hab : ∀ b, Ab w U b → Ab w U' b) (hu : ∀ f, f = 20 ∨ f = 27 ∨ f = 29 ∨ f = 30 ∨ f = 33 → U' f s = U f s) (hn : ∀ f i, f = 31 ∨ f = 32 → 0 ≤ i → i < 4 → U' f (4 * s + i) = U f (4 * s + i)) (h34 : ∀ k, 0 ≤ k → k < n → U' 34 (4 * s + k) = U 34 (4 * s + k)) (hNl : N.length ≤ 4) : TF v' A' T' U' w s a e o l5 l6 l7 l9 N n := by
  obtain ⟨⟨k1, k2, k3, k4, k5, k6, k7⟩, ⟨t1, t2, t3, t4⟩, nn, tn, ⟨s1, s2⟩, ⟨s3, s4⟩, ao, ⟨cn, cb⟩, ⟨u1, u2, u3⟩, ⟨u4, u5⟩⟩ := tf
  have la := hK_lt k1 (by decide)
  have fa := fun j => f.ff (k := j) la (fun y => (hx _ _ y).1 rfl)
  have e27 := hu 27 (by decide)
  have e33 := hu 33 (by decide)
  have l5' := hK_lt tn.1.1 (by decide)
  have l6' := hK_lt tn.1.2 (by decide)
  have l7' := hK_lt s1 (by decide)
  have l9' := hK_lt s3 (by decide)
  refine ⟨⟨f.kk k1 (by decide), by rw [(fa 5).2.2]; exact k2, by rw [(fa 6).2.2]; exact k3, by rw [(fa 7).2.2]; exact k4, by rw [(fa 8).2.2, e27, a3 _ u2]; exact k5, by rw [(fa 9).2.2]; exact k6, by rw [(fa 10).2.2]; exact k7⟩, ⟨by rw [ht _ l5']; exact t1, by rw [ht _ l6']; exact t2, by rw [ht _ l7']; exact t3, by rw [ht _ l9']; exact t4⟩, nn, TN_fw f (fun b k y => ⟨fun q => ⟨((hx _ _ y).2.2.1 q).1, ((hx _ _ y).2.2.1 q).2.1⟩, (hx _ _ y).2.2.2.2.1, (hx _ _ y).2.2.2.2.2.1, (hx _ _ y).2.2.2.2.2.2⟩) tn, ⟨f.kk s1 (by decide), by rw [(f.cc l7' (fun y => ((hx _ _ y).2.2.1 rfl).2.2.1 rfl)).1]; exact s2⟩, ⟨f.kk s3 (by decide), ?_⟩, AO_fw f (fun k y => (hx _ _ y).2.1 rfl) ao, ⟨by rw [e33]; exact cn, fun k i0 i1 => ?_⟩, ⟨by rw [hu 20 (by decide)]; exact u1, by rw [e27]; exact hab _ u2, by rw [hu 29 (by decide)]; exact u3⟩, ⟨by rw [hu 30 (by decide)]; exact u4, fun i i0 i1 => by rw [hn 31 i (by decide) i0 (by omega), hn 32 i (by decide) i0 (by omega)]; exact u5 i i0 i1⟩⟩
  · rw [(f.cc l9' (fun y => ((hx _ _ y).2.2.1 rfl).2.2.2 rfl)).1, s4, e33]
    exact rowL_congr (fun k h0 h1 => (a4 k h0 h1).symm)
  · obtain ⟨y1, y2, y3⟩ := cb k i0 i1
    rw [a4 k i0 (by omega), h34 k i0 i1]
    refine ⟨?_, f.kk y2 (by decide), hab _ y3⟩
    rw [(f.ff (k := 3) (hK_lt y2 (by decide)) (fun y => (hx _ _ y).2.2.2.1 y2 rfl)).2.2, a3 _ y3]
    exact y1
/-- a catch more, its body not yet read -/
theorem TF_reg (tf : TF v A T U w s a e o l5 l6 l7 l9 N n) (f : Fw X v v') (hx : ∀ b k, X b k → b ≠ a ∧ b ≠ e ∧ (k = 99 → b ≠ l5 ∧ b ≠ l6 ∧ b ≠ l7) ∧ (hK v.1 b = 22 → k ≠ 3) ∧ hK v.1 b ≠ 8 ∧ hK v.1 b ≠ 9 ∧ (k = 99 → hK v.1 b ≠ 10))
    (a3 : A' 3 = A 3) (a4 : ∀ k, 0 ≤ k → k < U 33 s → A' 4 (4 * s + k) = A 4 (4 * s + k)) (ht : ∀ b, b < hN v.1 → T' b = T b) (l9' : vLs v' l9 = rowL (A' 4) (4 * s) (U' 33 s)) (u33 : U 33 s ≤ U' 33 s) (hu : ∀ f, f = 20 ∨ f = 27 ∨ f = 29 ∨ f = 30 → U' f s = U f s) (u40 : U' 40 w = U 40 w) (hn : ∀ f i, f = 31 ∨ f = 32 → 0 ≤ i → i < 4 → U' f (4 * s + i) = U f (4 * s + i)) (h34 : ∀ k, 0 ≤ k → k < n → U' 34 (4 * s + k) = U 34 (4 * s + k)) (hNl : N.length ≤ 4) : TF v' A' T' U' w s a e o l5 l6 l7 l9 N n := by
  obtain ⟨⟨k1, k2, k3, k4, k5, k6, k7⟩, ⟨t1, t2, t3, t4⟩, nn, tn, ⟨s1, s2⟩, ⟨s3, s4⟩, ao, ⟨cn, cb⟩, ⟨u1, u2, u3⟩, ⟨u4, u5⟩⟩ := tf
  have la := hK_lt k1 (by decide)
  have fa := fun j => f.ff (k := j) la (fun y => (hx _ _ y).1 rfl)
  have e27 := hu 27 (by decide)
  have hab : ∀ b, Ab w U b → Ab w U' b := fun b y => ⟨y.1, by rw [u40]; exact y.2⟩
  have l5' := hK_lt tn.1.1 (by decide)
  have l6' := hK_lt tn.1.2 (by decide)
  have l7' := hK_lt s1 (by decide)
  have l9'' := hK_lt s3 (by decide)
  refine ⟨⟨f.kk k1 (by decide), by rw [(fa 5).2.2]; exact k2, by rw [(fa 6).2.2]; exact k3, by rw [(fa 7).2.2]; exact k4, by rw [(fa 8).2.2, e27, a3]; exact k5, by rw [(fa 9).2.2]; exact k6, by rw [(fa 10).2.2]; exact k7⟩, ⟨by rw [ht _ l5']; exact t1, by rw [ht _ l6']; exact t2, by rw [ht _ l7']; exact t3, by rw [ht _ l9'']; exact t4⟩, nn, TN_fw f (fun b k y => ⟨fun q => ⟨((hx _ _ y).2.2.1 q).1, ((hx _ _ y).2.2.1 q).2.1⟩, (hx _ _ y).2.2.2.2.1, (hx _ _ y).2.2.2.2.2.1, (hx _ _ y).2.2.2.2.2.2⟩) tn, ⟨f.kk s1 (by decide), by rw [(f.cc l7' (fun y => ((hx _ _ y).2.2.1 rfl).2.2 rfl)).1]; exact s2⟩, ⟨f.kk s3 (by decide), l9'⟩, AO_fw f (fun k y => (hx _ _ y).2.1 rfl) ao, ⟨by omega, fun k i0 i1 => ?_⟩, ⟨by rw [hu 20 (by decide)]; exact u1, by rw [e27]; exact hab _ u2, by rw [hu 29 (by decide)]; exact u3⟩, ⟨by rw [hu 30 (by decide)]; exact u4, fun i i0 i1 => by rw [hn 31 i (by decide) i0 (by omega), hn 32 i (by decide) i0 (by omega)]; exact u5 i i0 i1⟩⟩
  obtain ⟨y1, y2, y3⟩ := cb k i0 i1
  rw [a4 k i0 (by omega), h34 k i0 i1, a3]
  refine ⟨?_, f.kk y2 (by decide), hab _ y3⟩
  rw [(f.ff (k := 3) (hK_lt y2 (by decide)) (fun y => (hx _ _ y).2.2.2.1 y2 rfl)).2.2]
  exact y1
/-- the rows and addresses of a try with a new catch -/
theorem AE_reg (tz : TZ v T) (h33 : 0 ≤ U 33 s ∧ U 33 s < 4) (hca : hN v.1 ≤ ca) (hlk : hN v.1 ≤ lk) : AE w U A (Aec A (4 * s + U 33 s) ca) T (Tca T ca lk) := by
  have tca : T ca = 0 := tz ca hca
  have tlk : T lk = 0 := tz lk hlk
  refine ⟨fun _ _ => ⟨Aec_o (Or.inl (by decide)), Aec_o (Or.inl (by decide))⟩, fun _ _ => Aec_o (Or.inl (by decide)), fun d hd hr => Aec_o (Or.inr (fun q => ?_)), Aec_f (by decide), Aec_f (by decide), fun b h0 _ => ?_⟩
  · rw [q, show (4 * s + U 33 s) / 4 = s by omega, show (4 * s + U 33 s) % 4 = U 33 s by omega] at hr
    omega
  · unfold Tca
    rw [if_neg (fun q => h0 (by rw [q]; exact tca)), if_neg (fun q => h0 (by rw [q]; exact tlk))]
theorem MD_reg (md : MD R A T w s p0 v S U o) (cx : CX R w b0 Ah Th vh Uh A T v U c d) (hsh : 120 * w + Uh 19 w ≤ s) (n0 : 0 ≤ Uh 19 w) (u20 : U 20 s = 9) (h33 : 0 ≤ U 33 s ∧ U 33 s < 4) (hNl : N.length ≤ 4) (t9 : T l9 = 4) (k9 : hK v.1 l9 = 4) (h9h : hN vh.1 ≤ l9) (hca : hN v.1 ≤ ca) (hlk : hN v.1 ≤ lk) (nck : ca ≠ lk)
    (f : Fw (XK R l9) v v') (t' : PT v' (R 0) (R 1) (R 2) S') (tks : Tks S S') (x52 : S' 52 0 = -1) (x47 : S 47 0 ≤ S' 47 0) (gb : L0.Perm (mPar U w)) (ml : ML v' (R 9) (insA (insA [] L0) (mNs U w N ++ (if (pO U x (U 22 s)).1 ≠ -1 then [(2, (p, -1))] else []))))
    (kc : hK v'.1 ca = 22) (c0 : hR v'.1 ca 0 = some (A 2 s)) (c1 : hR v'.1 ca 1 = some lk) (c2 : TXn v' (hR v'.1 ca 2) x) (c4 : hI v'.1 ca 4 = 0) (nl : NL v' (A 0) lk N.length (nK U w N) (nP N)) (rm : RM (R 9) v v' n m) (qvV : QV (tRg s N x p (up U 34 (4 * s + U 33 s) (-1)))) :
    MD R (Aec A (4 * s + U 33 s) ca) (Tca T ca lk) w s p0 v' S' (tRg s N x p (up U 34 (4 * s + U 33 s) (-1))) o ∧ CX R w b0 Ah Th vh Uh (Aec A (4 * s + U 33 s) ca) (Tca T ca lk) v' (tRg s N x p (up U 34 (4 * s + U 33 s) (-1))) (c + n) (d + m) := by
  obtain ⟨g, ⟨hP, pr, qv, w0⟩, ⟨d1, s52⟩, ar, hsA, e22, ch⟩ := md
  have hx0 : FX w s U (up U 34 (4 * s + U 33 s) (-1)) := FX_34 h33
  have g0 := GI_34 g pr qv w0 hsA h33
  generalize hc : 4 * s + U 33 s = cc at *
  have e : ∀ f, f ≠ 34 → up U 34 cc (-1) f = U f := fun f hf => up_n hf
  have e33 : up U 34 cc (-1) 33 = U 33 := e 33 (by decide)
  have n3 := g.2.2.1.2.2.2
  have pq := pr.1
  have b33 := QV_b qv (f := 33) (c := 4) rfl rfl rfl
  have pr0 : PR w (up U 34 cc (-1)) := ⟨PQ_34 pq (Or.inl rfl), by rw [e 40 (by decide), e 9 (by decide)]; exact pr.2⟩
  have qv0 : QV (up U 34 cc (-1)) := QV_x qv rfl rfl (by omega) (by omega)
  have hs0 : As w (up U 34 cc (-1)) s := As_of hsA (e 19 (by decide))
  have h330 : 0 ≤ up U 34 cc (-1) 33 s ∧ up U 34 cc (-1) 33 s < 4 := by rw [e33]; exact h33
  have cc0 : 4 * s + up U 34 cc (-1) 33 s = cc := by rw [e33]; exact hc
  have po0 : ∀ y, pO (up U 34 cc (-1)) y (U 22 s) = pO U y (U 22 s) := fun y => pO_fx hx0 pq qv w0.1 (pq.1 s hsA).1
  have ko0 : ∀ y z, kO (up U 34 cc (-1)) w y z = kO U w y z := fun y z => kO_fx hx0 w0 n3
  have mn0 : mNs (up U 34 cc (-1)) w N = mNs U w N := by
    have : ∀ M : List (Int × Int), mNs (up U 34 cc (-1)) w M = mNs U w M := by
      intro M
      induction M with
      | nil => rfl
      | cons q M ih => rw [mNs, mNs, ih, ko0]
    exact this N
  have h55 : S' 55 = S 55 := tks.2.2.2.1 55 (by decide) (by decide) (by decide) (by decide) (by decide) (by decide) (by decide)
  have h56 : S' 56 = S 56 := tks.2.2.2.1 56 (by decide) (by decide) (by decide) (by decide) (by decide) (by decide) (by decide)
  have mp0 : mPar (up U 34 cc (-1)) w = mPar U w := by
    have n9 := hP.2.2.2.2.1
    unfold mPar
    rw [hx0.fk (f := 3) (by decide) (by omega), hx0.fk (f := 9) (by decide) (by omega), e 19 (by decide)]
    rw [tCat_congr (f := mKind (up U 34 cc (-1)) w) (g := mKind U w) _ _ (fun k a b => mKind_fx hx0 w0 n3 (by omega)), tCat_congr (f := mPm (up U 34 cc (-1)) w) (g := mPm U w) _ _ (fun k a b => mPm_fx hx0 w0 n3 n9 qv (by omega))]
    congr 1
    congr 1
    refine tCat_congr _ _ (fun k a b => ?_)
    by_cases z : w * 120 + k = s
    · rw [z]
      exact mPs_same hx0 pq qv w0 n3 hsA (fun g _ _ _ _ _ _ h7 => e g h7)
    · exact mPs_fx hx0 pq qv w0 n3 ⟨by omega, by omega⟩ z
  have g4 := g.2.2.2.1
  have G := GI_reg (L0 := L0) (N := N) (x := x) (p := p) (ca := ca) (lk := lk) (S' := S') g0 pr0 qv0 w0 hs0 (by rw [e 20 (by decide)]; exact u20) h330 hNl t9 k9 hca hlk nck f t' (by omega) h55 h56 (by rw [mp0]; exact gb) (by rw [mn0, e 22 (by decide), po0]; exact ml) kc c0 c1 c2 c4 (NL_congr nl (fun i _ _ => ⟨ko0 _ _, rfl⟩))
  rw [cc0] at G
  have hx1 : FX w s (up U 34 cc (-1)) (tRg s N x p (up U 34 cc (-1))) := tRg_fx hNl h330
  have vv := fun j => tRg_v (s := s) (N := N) (x := x) (p := p) (U := up U 34 cc (-1)) j
  have eo : ∀ f, f ≠ 33 ∧ f ≠ 35 ∧ f ≠ 36 ∧ f ≠ 37 ∧ f ≠ 38 ∧ f ≠ 39 → f ≠ 34 → tRg s N x p (up U 34 cc (-1)) f = U f := fun f h1 h2 => by rw [tRg_o h1, e f h2]
  have e22' : tRg s N x p (up U 34 cc (-1)) 22 = U 22 := eo 22 (by decide) (by decide)
  have e19' : tRg s N x p (up U 34 cc (-1)) 19 w = U 19 w := by rw [eo 19 (by decide) (by decide)]
  have s0 : 0 ≤ s := by have := hsA.1; omega
  have ae := AE_reg (A := A) (w := w) g.2.2.2.2.1.2 h33 hca hlk
  rw [hc] at ae
  have P' : PI w S' (tRg s N x p (up U 34 cc (-1))) := by
    refine PI_33 (PI_tks hP tks) (fun f hf hp => eo f ?_ ?_) (eo 30 (by decide) (by decide)) (fun k => ?_)
    · refine ⟨hf.1, fun q => by rw [q] at hp; exact absurd hp (by decide), fun q => by rw [q] at hp; exact absurd hp (by decide), fun q => by rw [q] at hp; exact absurd hp (by decide), fun q => by rw [q] at hp; exact absurd hp (by decide), fun q => by rw [q] at hp; exact absurd hp (by decide)⟩
    · intro q
      rw [q] at hp
      exact absurd hp (by decide)
    · rw [(vv k).1, e33]
      split
      · omega
      · exact b33 k
  have R' : PR w (tRg s N x p (up U 34 cc (-1))) := by
    have y := PQ_33 (s := s) (x := -1) pq (Or.inl rfl) h33.1
    rw [hc] at y
    have z : PR w (up (up U 34 cc (-1)) 33 s (U 33 s + 1)) := ⟨y, by rw [up_n (by decide), up_n (by decide), up_n (by decide), up_n (by decide)]; exact pr.2⟩
    refine PR_E z (fun g hg => ?_)
    by_cases q : g = 33
    · rw [q]
      funext j
      by_cases q2 : j = s
      · rw [(vv j).1, if_pos q2, q2, up_s, e33]
      · rw [(vv j).1, if_neg q2, show up (up U 34 cc (-1)) 33 s (U 33 s + 1) 33 j = U 33 j from by rw [up_eq, if_neg (fun q3 => q2 q3.2), up_n (by decide)], e33]
    · rw [up_n q, tRg_o ⟨q, pqF_ne hg rfl, pqF_ne hg rfl, pqF_ne hg rfl, pqF_ne hg rfl, pqF_ne hg rfl⟩]
  refine ⟨⟨G, ⟨P', R', qvV, w0⟩, ⟨by rw [h55]; exact d1, x52⟩, ?_, As_of hsA (eo 19 (by decide) (by decide)), by rw [e22', h55, h56]; exact e22, ?_⟩, ?_⟩
  · rw [e22']
    have k0 := g.1.w0.1
    have k2 := g.1.w0.2.1
    have kR9 := g.k9
    have y1 := AR_fw f (fun b k y => by
      rcases y with (y | y) | y | y
      · rw [y.1, k0]; exact ⟨by decide, fun q => absurd q (by decide), fun _ => by decide⟩
      · rw [y.1, k2]; exact ⟨by decide, fun q => absurd q (by decide), fun _ => by decide⟩
      · rw [y.1, kR9]; exact ⟨by decide, fun q => absurd q (by decide), fun _ => by decide⟩
      · rw [y.1, k9]; exact ⟨by decide, fun q => absurd q (by decide), fun _ => by decide⟩) _ _ _ ar
    have ab := (pq.1 s hsA).1
    have y2 := AR_ae ae pq qv _ _ _ ab y1
    have y3 := AR_fx hx0 pq qv _ _ _ ab y2
    exact AR_fx hx1 pr0.1 qv0 _ _ _ ⟨ab.1, by rw [e 40 (by decide)]; exact ab.2⟩ y3
  · have y1 := CH_fx (S' := S) w0.1 hx0 hP pr (own_ne hP pr ch d1 e22) d1 rfl (fun _ _ => rfl) ch
    have hP0 : PI w S (up U 34 cc (-1)) := PI_up hP rfl
    exact CH_fx w0.1 hx1 hP0 pr0 (own_ne hP0 pr0 y1 d1 (by rw [e 22 (by decide)]; exact e22)) d1 (by rw [h55]) (fun i _ => by rw [h56]) y1
  · obtain ⟨x1, x2, x3, x4, x5⟩ := (cx.fx hx0 (by rw [e 19 (by decide)]) hsh s0 w0.1 n0).fx hx1 (by rw [e19', e 19 (by decide)]) hsh s0 w0.1 n0
    have tR9 := g.2.2.2.2.2.1.2.2.2.2.2.2.1.2.1
    have hvh := cx.1.1.1
    refine ⟨x1.fw f (fun b k y => ?_) rm, cx.2.1.trans cx.2.2.2.1 ae, fun b hb => ?_, x4, x5⟩
    · rcases y with (y | y) | y | y
      · exact Or.inr (Or.inl ⟨y.1, by omega⟩)
      · exact Or.inr (Or.inr (Or.inl y))
      · by_cases q : b < hN vh.1
        · exact Or.inr (Or.inr (Or.inr (Or.inl ⟨y.2, by rw [← x3 b q, y.1]; exact Or.inr tR9⟩)))
        · exact Or.inl (by omega)
      · exact Or.inl (by rw [y.1]; exact h9h)
    · unfold Tca
      rw [if_neg (by omega), if_neg (by omega)]
      exact x3 b hb
end MDE
