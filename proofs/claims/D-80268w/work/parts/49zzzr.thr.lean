/-! COMPONENT, 15: lists of names behind 'throws' *-/
/-- the kinds by name; p0: no kind comes from a place behind -/
def KMp (v : vT) (mk : Nat) (A : Int → Nat) (U : tSt) (w p0 : Int) : Prop :=
  (∀ T, okK T → T ≠ [] → ∀ p, p0 ≤ p → vMp v mk T = optA A (kO U w (wN T) p)) ∧ (∀ k, 0 ≤ k → k < U 3 w → hK v.1 (A k) = 7) ∧ hK v.1 mk = 6 ∧ (4 ≤ U 3 w ∧ U 3 w ≤ 16)
theorem KMp_fw {X : Nat → Nat → Prop} {v v' : vT} {mk : Nat} {A : Int → Nat} {U : tSt} {w p0 : Int} (f : Fw X v v') (k : KMp v mk A U w p0) (h1 : ¬ X mk 99) : KMp v' mk A U w p0 := by
  obtain ⟨k1, k2, k3, k4⟩ := k
  refine ⟨fun T t1 t2 p hp => ?_, fun k a b => f.kk (k2 k a b) (by decide), f.kk k3 (by decide), k4⟩
  rw [(f.cc (hK_lt k3 (by decide)) h1).2.1]
  exact k1 T t1 t2 p hp
/-- names with commas between: whether it goes well, the state behind, words and places -/
def tLs (sp : Int) (n : Nat) : Nat → tSt → Bool × (tSt × List (Int × Int))
  | 0, S => (false, (S, []))
  | d + 1, S =>
    if n = 4 then (false, (tFail (tAdv S), []))
    else if tIsN (tAdv S) = true then
      (if tName (tAdv S) 51 0 = sp then ((tLs sp (n + 1) d (tName (tAdv S))).1, ((tLs sp (n + 1) d (tName (tAdv S))).2.1, (tName (tAdv S) 53 0, tName (tAdv S) 54 0) :: (tLs sp (n + 1) d (tName (tAdv S))).2.2))
       else (true, (tName (tAdv S), [(tName (tAdv S) 53 0, tName (tAdv S) 54 0)])))
    else (false, (tFail (tAdv S), []))
def nK (U : tSt) (w : Int) (N : List (Int × Int)) (i : Int) : Int := kO U w (N.getD i.toNat (0, 0)).1 (N.getD i.toNat (0, 0)).2
def nP (N : List (Int × Int)) (i : Int) : Int := (N.getD i.toNat (0, 0)).2
/-- names that mean nothing -/
def mNs (U : tSt) (w : Int) : List (Int × Int) → List tMi
  | [] => []
  | q :: N => (if kO U w q.1 q.2 = -1 then [(1, (q.2, -1))] else []) ++ mNs U w N
/-- where it fails: at hand a wrong sign, or it is said -/
def fP (ok : Bool) (S : tSt) : Int := if ok = true then S 49 0 else S 52 0
/-- thrown at p while names were read -/
def FL (rd wr lx : Nat) (X : Nat → Nat → Prop) (v v' : vT) (p : Int) (n s : Int) : Prop := Fw X v v' ∧ hI v'.1 wr 6 = iI p ∧ RM lx v v' n s ∧ ∃ L', ML v' lx L' ∧ L'.length ≤ 2800
/-- what reading a list of names may change -/
def Xs (rd wr l lx : Nat) (a k : Nat) : Prop := Xq rd wr a k ∨ ((a = lx ∨ a = l) ∧ k = 99)
section THS
variable {r rd tp wr u mk lx l : Nat} {A : Int → Nat} {U : tSt} {w p0 : Int} {Q : am_O → am_H → Prop} {X : Nat → Nat → Prop}
theorem tLs_len (sp : Int) : ∀ (d n : Nat) (S : tSt), (tLs sp n d S).2.2.length ≤ d := by
  intro d
  induction d with
  | zero => intro n S; exact Nat.le_refl _
  | succ d ih =>
    intro n S
    rw [tLs]
    have := ih (n + 1) (tName (tAdv S))
    split
    · exact Nat.zero_le _
    · split
      · split
        · simp only [List.length_cons]
          omega
        · simp
      · exact Nat.zero_le _
theorem Wg_FL {v v1 v' : vT} {L : List tMi} {p n s : Int} {m t : Nat} (f : Fw X v v1) (rm : RM lx v v1 n s) (ml : ML v1 lx L) (hl : L.length ≤ 2800) (wg : Wg rd wr m t v1 v' p) (sub : ∀ a k, Xq rd wr a k → X a k) (nx : ¬ Xq rd wr lx 99) (k17 : hK v1.1 rd ≠ 17 ∧ hK v1.1 wr ≠ 17) : FL rd wr lx X v v' p (n + m) (s + t) := by
  obtain ⟨w1, w2, w3, w4, w5⟩ := wg
  have ml' := ML_fw w1 ml nx (fun a k z _ => by rcases z with z | z <;> rw [z.1]; exact k17.1; exact k17.2)
  have cp : vCp v' lx = vCp v1 lx := (w1.cc (hK_lt ml.1.choose_spec.1.1 (by decide)) nx).2.2.1
  refine ⟨f.trans (w1.mono sub), w2, ?_, L, ml', hl⟩
  obtain ⟨q1, q2, q3, q4, q5⟩ := rm
  have := w1.1
  exact ⟨by omega, by omega, by omega, by rw [cp]; omega, by rw [cp]; exact q5⟩
theorem PT.w0 {v : vT} {S : tSt} (t : PT v rd tp wr S) : hK v.1 rd = 2 ∧ hK v.1 wr = 3 ∧ hK v.1 tp = 44 := ⟨t.2.2.2.2.1, t.2.2.2.2.2.2, t.1.1.2.1⟩
theorem tAdv_47 {S : tSt} (s : SI S) : S 47 0 ≤ tAdv S 47 0 ∧ S 47 0 ≤ tAdv S 49 0 ∧ tAdv S 49 0 ≤ tAdv S 47 0 := by
  have := tAdv_val s.1
  omega
theorem tAdv_52 {S : tSt} : tAdv S 52 0 = S 52 0 := congrFun (tAdv_o 52 (by decide) (by decide) (by decide) (by decide)) 0
theorem tName_52 {S : tSt} (n : tIsN S = true) : tName S 52 0 = S 52 0 := by
  rw [tName_e n, tAdv_52]
  simp only [up_eq, true_and, false_and, and_true, and_false, and_self, if_true, if_false, eq_self, Nat.reduceEqDiff, reduceIte]
theorem tFail_52 {S : tSt} (e : S 52 0 = -1) : tFail S 52 0 = S 49 0 := by
  unfold tFail
  simp only [up_eq, true_and, false_and, and_true, and_false, and_self, if_true, if_false, eq_self, Nat.reduceEqDiff, reduceIte, e]
theorem Xq_k {v : vT} {S : tSt} {a k : Nat} (t : PT v rd tp wr S) (x : Xq rd wr a k) : (hK v.1 a = 2 ∨ hK v.1 a = 3) ∧ 3 ≤ k ∧ k ≠ 7 ∧ k ≠ 99 := by
  rcases x with x | x
  · exact ⟨Or.inl (by rw [x.1]; exact t.w0.1), by omega, by omega, by omega⟩
  · exact ⟨Or.inr (by rw [x.1]; exact t.w0.2.1), by omega, by omega, by omega⟩
theorem RUn_q {v v' : vT} {S : tSt} (t : PT v rd tp wr S) (f : Fw (Xq rd wr) v v') (y : RUn v rd u mk lx) : RUn v' rd u mk lx :=
  RUn_fw f y (fun z => (Xq_k t z).2.2.1 rfl) (fun k hk z => by have := (Xq_k t z).1; rw [y.2.2.1] at this; omega)
theorem ML_q {v v' : vT} {S : tSt} {L : List tMi} (t : PT v rd tp wr S) (f : Fw (Xq rd wr) v v') (y : ML v lx L) : ML v' lx L :=
  ML_fw f y (fun z => (Xq_k t z).2.2.2 rfl) (fun a k z _ => by have := (Xq_k t z).1; omega)
theorem NL_q {v v' : vT} {S : tSt} {n : Int} {kf pf : Int → Int} (t : PT v rd tp wr S) (f : Fw (Xq rd wr) v v') (y : NL v A l n kf pf) : NL v' A l n kf pf :=
  NL_fw f y (fun z => (Xq_k t z).2.2.2 rfl) (fun a k z _ => by have := (Xq_k t z).1; omega)
theorem KMp_q {v v' : vT} {S : tSt} (t : PT v rd tp wr S) (f : Fw (Xq rd wr) v v') (y : KMp v mk A U w p0) : KMp v' mk A U w p0 := KMp_fw f y (fun z => (Xq_k t z).2.2.2 rfl)
theorem RM_q {v v' : vT} {S : tSt} {L : List tMi} {n s : Int} (t : PT v rd tp wr S) (f : Fw (Xq rd wr) v v') (m : ML v lx L) (h1 : (hN v'.1 : Int) ≤ hN v.1 + n) (h2 : hS v.1 ≤ hS v'.1) (h3 : (hS v'.1 : Int) ≤ hS v.1 + s) : RM lx v v' n s := by
  have cp : vCp v' lx = vCp v lx := (f.cc (hK_lt m.1.choose_spec.1.1 (by decide)) (fun z => (Xq_k t z).2.2.2 rfl)).2.2.1
  exact ⟨f.1, h1, h2, by rw [cp]; omega, by rw [cp]; exact Nat.le_refl _⟩
theorem FL.pre {v v1 v' : vT} {p n s n1 s1 : Int} (f : Fw X v v1) (rm : RM lx v v1 n s) (fl : FL rd wr lx X v1 v' p n1 s1) : FL rd wr lx X v v' p (n + n1) (s + s1) := by
  obtain ⟨a1, a2, a3, a4⟩ := fl
  exact ⟨f.trans a1, a2, rm.trans a3, a4⟩
theorem FL.le {v v' : vT} {p n s n1 s1 : Int} (fl : FL rd wr lx X v v' p n s) (h1 : n ≤ n1) (h2 : s ≤ s1) : FL rd wr lx X v v' p n1 s1 := by
  obtain ⟨a1, a2, a3, a4⟩ := fl
  exact ⟨a1, a2, a3.le h1 h2, a4⟩
theorem getD_app {N M : List (Int × Int)} {q : Int × Int} : (N ++ q :: M).getD N.length (0, 0) = q := by
  rw [List.getD_eq_getElem?_getD, List.getElem?_append_right (Nat.le_refl _), Nat.sub_self]
  rfl
theorem c_thrL : ∀ (d : Nat) (pre : List (Int × Int)) (S : tSt) (h : am_H) (v : vT) (L : List tMi) (l2 : Option am_V), pre.length ≤ 4 → pre.length + d = 5 → CR h v → PT v rd tp wr S → S 52 0 = -1 → RUn v rd u mk lx → ML v lx L → L.length + d ≤ 2800 → l ≠ lx → KMp v mk A U w p0 → p0 ≤ S 47 0 → mk ≠ l →
    NL v A l pre.length (nK U w (pre ++ (tLs 44 pre.length d S).2.2)) (nP (pre ++ (tLs 44 pre.length d S).2.2)) →
    ((tLs 44 pre.length d S).1 = true → (tLs 44 pre.length d S).2.1 51 0 ≠ -2 → ∀ h' v', CR h' v' → Fw (Xs rd wr l lx) v v' → PT v' rd tp wr (tLs 44 pre.length d S).2.1 →
      NL v' A l (pre ++ (tLs 44 pre.length d S).2.2).length (nK U w (pre ++ (tLs 44 pre.length d S).2.2)) (nP (pre ++ (tLs 44 pre.length d S).2.2)) → ML v' lx (insA L (mNs U w (tLs 44 pre.length d S).2.2)) →
      RM lx v v' (20 * ((tLs 44 pre.length d S).2.1 47 0 - S 47 0) + 8 * d) (200 * ((tLs 44 pre.length d S).2.1 47 0 - S 47 0) + 80 * d) → Q (Sum.inl (some (vR (some l)))) h') →
    (((tLs 44 pre.length d S).1 = true → (tLs 44 pre.length d S).2.1 51 0 = -2) → ∀ h' v', CR h' v' → FL rd wr lx (Xs rd wr l lx) v v' (fP (tLs 44 pre.length d S).1 (tLs 44 pre.length d S).2.1) (20 * ((tLs 44 pre.length d S).2.1 47 0 - S 47 0) + 8 * d) (200 * ((tLs 44 pre.length d S).2.1 47 0 - S 47 0) + 80 * d) → Q (Sum.inr wr) h') →
    Rn (r + 1) 132 18 [some (vR (some rd)), some (vR (some l)), l2] [] h Q := by
  intro d
  induction d with
  | zero => intro pre S h v L l2 h4 hd; omega
  | succ d ih =>
    intro pre S h v L l2 h4 hd c t s52 y ml hl nlx km pp mkl nl q1 q2
    have sub : ∀ a k, Xq rd wr a k → Xs rd wr l lx a k := fun a k => Or.inl
    have nq : ¬ Xq rd wr lx 99 := fun z => (Xq_k t z).2.2.2 rfl
    have kr := c.kk t.w0.1 (by decide)
    have si := t.2.1
    obtain ⟨p1, p2, p3⟩ := tAdv_47 si
    have f47 : tFail (tAdv S) 47 0 = tAdv S 47 0 := congrFun (tFail_o 47 (by decide)) 0
    have f52 : tFail (tAdv S) 52 0 = tAdv S 49 0 := tFail_52 (by rw [tAdv_52]; exact s52)
    have RF : (pre.length = 4 ∨ ¬ tIsN (tAdv S) = true) → tLs 44 pre.length (d + 1) S = (false, (tFail (tAdv S), [])) := by
      intro e
      rw [tLs]
      rcases e with e | e
      · rw [if_pos e]
      · rw [if_neg e]
        split <;> rfl
    have bad : (pre.length = 4 ∨ ¬ tIsN (tAdv S) = true) → ∀ v1 h' v' (m t : Nat), CR h' v' → Fw (Xq rd wr) v v1 → RM lx v v1 (20 * (tAdv S 47 0 - S 47 0)) (200 * (tAdv S 47 0 - S 47 0)) → m ≤ 4 → t ≤ 40 → Wg rd wr m t v1 v' (tAdv S 49 0) → PT v1 rd tp wr (tAdv S) ∨ v1 = v → Q (Sum.inr wr) h' := by
      intro e v1 h' v' m t' c' f1 rm m4 t4 wg or
      have R := RF e
      rw [R] at q2
      refine q2 (fun z => absurd (show false = true from z) (by decide)) h' v' c' ?_
      have k17 : hK v1.1 rd ≠ 17 ∧ hK v1.1 wr ≠ 17 := by
        rw [f1.kk t.w0.1 (by decide), f1.kk t.w0.2.1 (by decide)]
        decide
      have := Wg_FL (X := Xs rd wr l lx) (f1.mono sub) rm (ML_q t f1 ml) (by omega) wg sub nq k17
      obtain ⟨z1, z2, z3, z4⟩ := this
      refine ⟨z1, ?_, z3.le ?_ ?_, z4⟩
      · show _ = iI (fP false (tFail (tAdv S)))
        unfold fP
        rw [if_neg (by decide), f52]
        exact z2
      · show _ ≤ 20 * (tFail (tAdv S) 47 0 - S 47 0) + _
        rw [f47]
        omega
      · show _ ≤ 200 * (tFail (tAdv S) 47 0 - S 47 0) + _
        rw [f47]
        omega
    rw [sX1_throwsList_18, sX1_throwsList_19 kr]
    refine t_next c t (fun z h1 v1 c1 f1 t1 b1 b2 b3 _ => ?_) (fun z h1 v1 c1 w1 => ?_)
    · have rm1 : RM lx v v1 (20 * (tAdv S 47 0 - S 47 0)) (200 * (tAdv S 47 0 - S 47 0)) := RM_q t f1 ml b1 b2 b3
      have y1 := RUn_q t f1 y
      have ml1 := ML_q t f1 ml
      have nl1 := NL_q t f1 nl
      have km1 := KMp_q t f1 km
      have kr1 := c1.kk t1.w0.1 (by decide)
      have kl1 := c1.kk nl1.1 (by decide)
      obtain ⟨_, n0, sz, _⟩ := nl1.raw c1
      rw [Kt_0, sX1_throwsList_22, sX1_throwsList_23, sX1_throwsList_24 kl1, sz, Kt_v, sX1_throwsList_27, sX1_throwsList_28, i_4]
      have key : Rn (r + 1) 132 36 [some (vR (some rd)), some (vR (some l)), l2] [vI (bI (pre.length ≠ 4)), vR (some rd)] h1 Q := by
        rw [sX1_throwsList_36 kr1]
        refine t_need c1 t1 (fun n4 => ?_) (fun n4 h2 v2 c2 w2 => ?_)
        · rw [Kt_0, sX1_throwsList_39, sX1_throwsList_40 kr1]
          refine t_name c1 t1 (fun ni ns h2 v2 a c2 f2 t2 na g1 g2 g3 => ?_) (fun ni ns h2 v2 c2 w2 => ?_) (fun ni h2 v2 c2 w2 => ?_)
          · have n4' : ¬ pre.length = 4 := n4
            obtain ⟨g53, g54, g47, g49, g50, g51⟩ := tName_g ni
            have si1 := t1.2.1
            obtain ⟨r1, r2, r3⟩ := tAdv_47 si1
            have rm2 : RM lx v1 v2 (20 * (tName (tAdv S) 47 0 - tAdv S 47 0) + 4) (200 * (tName (tAdv S) 47 0 - tAdv S 47 0) + 40) := RM_q t1 f2 ml1 (by omega) g2 (by omega)
            have y2 := RUn_q t1 f2 y1
            have ml2 := ML_q t1 f2 ml1
            have nl2 := NL_q t1 f2 nl1
            have km2 := KMp_q t1 f2 km1
            have kr2 := c2.kk t2.w0.1 (by decide)
            obtain ⟨na1, na2, na3, na4⟩ := na
            have ne : vTx v2 a ≠ [] := fun z => by
              rw [z, g53] at na2
              exact (tIsN_iff.mp ni).1 na2.symm
            have kn : hK (newC h2 19 2) rd = 2 := by rw [hK_newC, if_neg (by have := hK_lt kr2 (by decide); omega)]; exact kr2
            have en : hI (newC h2 19 2) rd 14 = iI (tName (tAdv S) 54 0) := by rw [hI_newC, if_neg (by have := hK_lt kr2 (by decide); omega), c2.ii t2.w0.1 rfl]; exact na4
            have hp0 : p0 ≤ tName (tAdv S) 54 0 := by rw [g54]; omega
            have hpb : -1 ≤ tName (tAdv S) 54 0 ∧ tName (tAdv S) 54 0 < 100000 := by rw [g54]; have := si1.2.1; omega
            rw [Kt_v, sX1_throwsList_43, sX1_throwsList_44, sX1_throwsList_45, sX1_throwsList_48, sX1_throwsList_49, sX1_throwsList_50, sX1_throwsList_51, sX1_throwsList_52 kn, en, sX1_throwsList_55 kn]
            have after : ∀ N : List (Int × Int), (∃ M, N = pre ++ (tName (tAdv S) 53 0, tName (tAdv S) 54 0) :: M) → NL v2 A l pre.length (nK U w N) (nP N) →
                (∀ h3 v3, CR h3 v3 → Fw (Xs rd wr l lx) v v3 → PT v3 rd tp wr (tName (tAdv S)) → RUn v3 rd u mk lx → KMp v3 mk A U w p0 → NL v3 A l (pre.length + 1) (nK U w N) (nP N) → ML v3 lx (insA L (if kO U w (tName (tAdv S) 53 0) (tName (tAdv S) 54 0) = -1 then [(1, (tName (tAdv S) 54 0, -1))] else [])) → RM lx v v3 (20 * (tName (tAdv S) 47 0 - S 47 0) + 8) (200 * (tName (tAdv S) 47 0 - S 47 0) + 80) → Rn (r + 1) 132 75 [some (vR (some rd)), some (vR (some l)), some (vR (some a))] [vI 44, vI (iI (tName (tAdv S) 51 0))] h3 Q) →
                Cl (r + 1) 129 [vR (some rd), vR (some a), vI (iI (tName (tAdv S) 54 0))] (newC h2 19 2) (Kt (r + 1) 132 58 [some (vR (some rd)), some (vR (some l)), some (vR (some a))] [vR (some (hN h2)), vR (some (hN h2)), vR (some l)] Q) := by
              rintro N ⟨M, rfl⟩ nlN q3
              have gk : nK U w (pre ++ (tName (tAdv S) 53 0, tName (tAdv S) 54 0) :: M) pre.length = kO U w (tName (tAdv S) 53 0) (tName (tAdv S) 54 0) := by
                unfold nK
                rw [Int.toNat_natCast, getD_app]
              have gp : nP (pre ++ (tName (tAdv S) 53 0, tName (tAdv S) 54 0) :: M) pre.length = tName (tAdv S) 54 0 := by
                unfold nP
                rw [Int.toNat_natCast, getD_app]
              have mp := km2.1 (vTx v2 a) na3 ne _ hp0
              rw [na2] at mp
              have kb := kO_b (w := w) (U := U) (x := tName (tAdv S) 53 0) (a := tName (tAdv S) 54 0) km2.2.2.2
              refine nm_add (K2 := Kt (r + 1) 132 65 [some (vR (some rd)), some (vR (some l)), some (vR (some a))] [vR (some (hN h2)), vR (some l)] Q) (K3 := Kt (r + 1) 132 68 [some (vR (some rd)), some (vR (some l)), some (vR (some a))] [] Q) c2 y2 ml2 (by omega) na1 na3.1 hpb nlN (by omega) nlx (by rw [gk]; exact mp) (by rw [gk]; exact fun z => km2.2.1 _ (by omega) (by omega)) gp na4 (fun z h3 e1 e2 e3 e4 => ?_) (fun h3 e1 e2 => ?_) (fun h3 v3 c3 F nl3 ml3 rm3 => ?_)
              · rw [Kt_v, sX1_throwsList_58, sX1_throwsList_59 e2, e1, sX1_throwsList_62 (by omega) (by omega)]
                exact e4
              · rw [Kt_0, sX1_throwsList_65 e1]
                exact e2
              · have l4 : hK v2.1 l = 4 := nl2.1
                have lx4 : hK v2.1 lx = 4 := ml2.1.choose_spec.1.1
                have t3 : PT v3 rd tp wr (tName (tAdv S)) := PT_fw F t2 (fun k hk z => by have := z.2; omega) (fun k z => by have := t2.w0.2.2; rcases z.1 with e | e <;> rw [e] at this <;> omega) (fun b z => by rcases z.1 with e | e <;> rw [e] <;> omega)
                have y3 := RUn_fw F y2 (fun z => absurd z.2 (by decide)) (fun k hk z => by have := z.2; omega)
                have km3 := KMp_fw F km2 (fun z => by have := km2.2.2.1; rcases z.1 with e | e <;> rw [e] at this <;> omega)
                have kr3 := c3.kk t3.w0.1 (by decide)
                rw [Kt_v, sX1_throwsList_68, sX1_throwsList_69, sX1_throwsList_70 kr3, c3.ii t3.w0.1 rfl, t3.1.2.2.2.1, sX1_throwsList_73]
                rw [gk] at ml3
                refine q3 h3 v3 c3 (((f1.trans f2).mono sub).trans (F.mono (fun a k z => Or.inr z))) t3 y3 km3 nl3 ml3 (((rm1.trans rm2).trans rm3).le (by omega) (by omega))
            by_cases s44 : tName (tAdv S) 51 0 = 44
            · have RC : tLs 44 pre.length (d + 1) S = ((tLs 44 (pre.length + 1) d (tName (tAdv S))).1, ((tLs 44 (pre.length + 1) d (tName (tAdv S))).2.1, (tName (tAdv S) 53 0, tName (tAdv S) 54 0) :: (tLs 44 (pre.length + 1) d (tName (tAdv S))).2.2)) := by
                rw [tLs, if_neg n4', if_pos ni, if_pos s44]
              rw [RC] at q1 q2 nl2
              refine after _ ⟨_, rfl⟩ nl2 (fun h3 v3 c3 F3 t3 y3 km3 nl3 ml3 rm3 => ?_)
              rw [sX1_throwsList_75, s44, i_44, if_pos rfl]
              have IH := ih (pre ++ [(tName (tAdv S) 53 0, tName (tAdv S) 54 0)]) (tName (tAdv S)) h3 v3 _ (some (vR (some a))) (by simp only [List.length_append, List.length_singleton]; omega) (by simp only [List.length_append, List.length_singleton]; omega) c3 t3 (by rw [tName_52 ni, tAdv_52]; exact s52) y3 ml3 (by rw [insA_len]; split <;> simp only [List.length_singleton, List.length_nil] <;> omega) nlx km3 (by omega) mkl
              simp only [List.length_append, List.length_singleton, List.append_assoc, List.singleton_append] at IH
              refine IH nl3 (fun o1 o2 h' v' c' f' t' n' m' rm' => ?_) (fun o1 h' v' c' fl => ?_)
              · refine q1 o1 o2 h' v' c' (F3.trans f') t' (by simp only [List.length_append]; exact n') ?_ ((rm3.trans rm').le ?_ ?_)
                · rw [mNs, insA_app]
                  exact m'
                · show _ ≤ 20 * ((tLs 44 (pre.length + 1) d (tName (tAdv S))).2.1 47 0 - S 47 0) + _
                  omega
                · show _ ≤ 200 * ((tLs 44 (pre.length + 1) d (tName (tAdv S))).2.1 47 0 - S 47 0) + _
                  omega
              · refine q2 o1 h' v' c' ((fl.pre F3 rm3).le ?_ ?_)
                · show _ ≤ 20 * ((tLs 44 (pre.length + 1) d (tName (tAdv S))).2.1 47 0 - S 47 0) + _
                  omega
                · show _ ≤ 200 * ((tLs 44 (pre.length + 1) d (tName (tAdv S))).2.1 47 0 - S 47 0) + _
                  omega
            · have RE : tLs 44 pre.length (d + 1) S = (true, (tName (tAdv S), [(tName (tAdv S) 53 0, tName (tAdv S) 54 0)])) := by
                rw [tLs, if_neg n4', if_pos ni, if_neg s44]
              rw [RE] at q1 q2 nl2
              refine after _ ⟨_, rfl⟩ nl2 (fun h3 v3 c3 F3 t3 y3 km3 nl3 ml3 rm3 => ?_)
              have s51 := t3.2.1.2.2.2.1
              rw [sX1_throwsList_75, i_44, if_neg (by rw [iI_eq (by omega) (by omega) (by omega) (by omega)]; exact s44), sX1_throwsList_78, sX1_throwsList_79]
              refine q1 rfl ns h3 v3 c3 F3 t3 (by simp only [List.length_append, List.length_singleton]; exact nl3) ?_ (rm3.le ?_ ?_)
              · rw [mNs, mNs, List.append_nil]
                exact ml3
              · show _ ≤ 20 * (tName (tAdv S) 47 0 - S 47 0) + _
                omega
              · show _ ≤ 200 * (tName (tAdv S) 47 0 - S 47 0) + _
                omega
          · have n4' : ¬ pre.length = 4 := n4
            have RE : tLs 44 pre.length (d + 1) S = (true, (tName (tAdv S), [(tName (tAdv S) 53 0, tName (tAdv S) 54 0)])) := by
              rw [tLs, if_neg n4', if_pos ni, if_neg (by rw [ns]; decide)]
            rw [RE] at q2
            rw [Kt_x]
            obtain ⟨g53, g54, g47, g49, g50, g51⟩ := tName_g ni
            obtain ⟨r1, r2, r3⟩ := tAdv_47 t1.2.1
            have k17 : hK v1.1 rd ≠ 17 ∧ hK v1.1 wr ≠ 17 := by
              rw [t1.w0.1, t1.w0.2.1]
              decide
            refine q2 (fun _ => ns) h2 v2 c2 ((Wg_FL (f1.mono sub) rm1 ml1 (by omega) w2 sub nq k17).le ?_ ?_)
            · show _ ≤ 20 * (tName (tAdv S) 47 0 - S 47 0) + _
              omega
            · show _ ≤ 200 * (tName (tAdv S) 47 0 - S 47 0) + _
              omega
          · rw [Kt_x]
            exact bad (Or.inr ni) v1 h2 v2 4 40 c2 f1 rm1 (by omega) (by omega) w2 (Or.inl t1)
        · rw [Kt_x]
          exact bad (Or.inl (by omega)) v1 h2 v2 0 0 c2 f1 rm1 (by omega) (by omega) w2 (Or.inl t1)
      unfold bI at key
      by_cases n4 : pre.length = 4
      · rw [if_neg (fun z => z n4)] at key
        rw [if_pos (by rw [iI_le (by omega) (by omega) (by omega) (by omega)]; omega), sX1_throwsList_35]
        exact key
      · rw [if_pos n4] at key
        rw [if_neg (by rw [iI_le (by omega) (by omega) (by omega) (by omega)]; omega), sX1_throwsList_31, sX1_throwsList_32]
        exact key
    · rw [Kt_x]
      refine bad (Or.inr (fun n => ?_)) v h1 v1 0 0 c1 Fw.refl ⟨Nat.le_refl _, by omega, Nat.le_refl _, by omega, Nat.le_refl _⟩ (by omega) (by omega) w1 (Or.inr rfl)
      have tk := TK_adv si.1
      exact (tIsN_iff.mp n).1 (tk.2.2.2 (by rw [z]; decide))
end THS
