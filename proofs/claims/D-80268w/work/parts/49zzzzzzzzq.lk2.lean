/-! COMPONENT, 108: link: tries (pc 65-152) *-/
/-- what the first n names of a try mean -/
def clN (U : tSt) (w : Int) (A : Nat → Int → Nat) (s : Int) (n : Nat) : List (Option Nat) := (List.range n).map (fun (i : Nat) => optA (A 1) (mO U w (U 31 (4 * s + (i : Int)))))
def clL (U : tSt) (w : Int) (A : Nat → Int → Nat) (D : List Int) (s : Int) : List (Option Nat) := if s ∈ D then clN U w A s (U 30 s).toNat else []
/-- in the middle of a try -/
def clM (U : tSt) (w : Int) (A : Nat → Int → Nat) (D : List Int) (s : Int) (n : Nat) (t : Int) : List (Option Nat) := if t = s then clN U w A s n else clL U w A D t
def mL2 (U : tSt) (w s : Int) : List tMi := tCat (fun k => mM1 U w (U 31 (4 * s + k)) (U 32 (4 * s + k))) (U 30 s).toNat 0
section LK2
variable {R : Nat → Nat} {A : Nat → Int → Nat} {T : Nat → Nat} {w p0 : Int} {U : tSt} {r : Nat} {oc ov : Int → Option Nat} {Q : am_O → am_H → Prop} {l3 : Option am_V}
theorem clN_sn {s : Int} {n : Nat} : clN U w A s (n + 1) = clN U w A s n ++ [optA (A 1) (mO U w (U 31 (4 * s + n)))] := by
  unfold clN
  rw [List.range_succ, List.map_append]
  rfl
/-- a list of a try grows -/
theorem LS_cl {v : vT} {cl cl' : Int → List (Option Nat)} {L : List tMi} {s : Int} {l : Nat} {n' s' c' : Nat} (ls : LKS R A T w p0 v U oc cl ov L) (hs : As w U s) (b19 : U 19 w ≤ 120) (s9 : U 20 s = 9) (r7 : hR v.1 (A 2 s) 7 = some l) (hn : hN v.1 ≤ n') (h2 : ∀ t, t ≠ s → cl' t = cl t) : LKS R A T w p0 (vsL (vbm v n' s') l (cl' s) c') U oc cl' ov L ∧ Fw (fun a k => a = l ∧ k = 99) v (vsL (vbm v n' s') l (cl' s) c') := by
  obtain ⟨gu, gl, ml, ru⟩ := ls
  have x := (gu.2.2.2.2.1 s hs).2
  obtain ⟨x0, x3, x1, x2, x4, x5, x7, x9, xa, xb, xn⟩ := x
  obtain ⟨k36, d8, d10, l5, l6, l7, l9, ⟨t5, t6, t7, t9⟩, ⟨k5, k6, k7, k9⟩, ⟨r5, r6, r7', r9⟩, ⟨n5, n6⟩, q5, q6, q7, q9⟩ := x9 s9
  have el : l7 = l := by rw [r7] at r7'; cases r7'; rfl
  subst el
  have tR9 := gu.2.2.2.1.2.2.1
  have f : Fw (fun a k => a = l7 ∧ k = 99) v (vsL (vbm v n' s') l7 (cl' s) c') := (Fw.refl.bm hn).sL (Or.inr ⟨rfl, rfl⟩)
  have hx : ∀ a k, (a = l7 ∧ k = 99) → a < hN v.1 → XA v T (R 9) (hN v.1) (7 + A 2 s) a k := fun a k y _ => Or.inr (Or.inr (Or.inl ⟨by rw [y.1]; exact k7, y.2, by rw [y.1, t7]; omega, by rw [y.1]; exact t7⟩))
  have fa : FA (fun a k => a = l7 ∧ k = 99) v (vsL (vbm v n' s') l7 (cl' s) c') T (R 9) (hN v.1) (7 + A 2 s) := ⟨f, hx, gu.2.2.2.1.1.1, gu.2.2.2.1.2.2.2.2⟩
  have nk : ∀ {a n : Nat} {k : Nat}, hK v.1 a = n → n ≠ 4 → ¬ (a = l7 ∧ k = 99) := fun e hn y => by rw [y.1, k7] at e; omega
  have nl : ∀ {a n : Nat}, T a = n → n < 7 → ¬ (a = l7 ∧ (99 : Nat) = 99) := fun e hn y => by rw [y.1, t7] at e; omega
  have lv : vLs (vsL (vbm v n' s') l7 (cl' s) c') l7 = cl' s := by rw [vLs_sL, if_pos rfl]
  generalize (vsL (vbm v n' s') l7 (cl' s) c') = v' at *
  refine ⟨⟨GU_a (cl' := cl') gu f hx (fun t ht => ?_) (fun m h0 h1 => ?_), GL_a gl fa ru.1 ru.2.2.1 (fun k => nk ru.1 (by decide)), ML_fw f ml (nl tR9 (by decide)) (fun a k y hk => by omega), RUn_fw f ru (nk ru.1 (by decide)) (fun k _ => nk ru.2.2.1 (by decide))⟩, f⟩
  · by_cases e : t = s
    · right
      rw [e]
      have q := fun k => f.ff (k := k) (hK_lt k36 (by decide)) (nk k36 (by decide))
      refine ⟨fun y => by omega, fun y => by omega, fun y => by omega, fun y => by omega, fun y => by omega, fun y => by omega, fun y => by omega, fun _ => ?_, fun y => by omega, fun y => by omega, xn⟩
      refine ⟨f.kk k36 (by decide), by rw [(q 8).2.2]; exact d8, by rw [(q 10).2.2]; exact d10, l5, l6, l7, l9, ⟨t5, t6, t7, t9⟩, ⟨f.kk k5 (by decide), f.kk k6 (by decide), f.kk k7 (by decide), f.kk k9 (by decide)⟩, ⟨by rw [(q 5).2.2]; exact r5, by rw [(q 6).2.2]; exact r6, by rw [(q 7).2.2]; exact r7, by rw [(q 9).2.2]; exact r9⟩, ?_⟩
      rw [ls_a fa tR9 k5 t5, ls_a fa tR9 k6 t6, ls_a fa tR9 k9 t9]
      refine ⟨⟨n5, n6⟩, fun i i0 i1 => TXn_a fa (q5 i i0 i1), fun i i0 i1 => ?_, lv, q9⟩
      obtain ⟨e, e1, e2⟩ := q6 i i0 i1
      exact ⟨e, e1, isIg_a fa e2⟩
    · left
      have kt := (gu.2.2.2.2.1 t ht).1.1
      refine ⟨fun y => ?_, fun y => e (A2_inj (fun k hk => (gu.2.2.2.2.1 k hk).1) b19 ht hs (by omega)), rfl, h2 t e⟩
      have := hK_lt (a := A 2 t) (h := v.1) rfl (by omega)
      omega
  · have mf := gu.2.2.1.2.2.2 m h0 h1
    rw [(f.ff (k := 6) (hK_lt mf.1 (by decide)) (nk mf.1 (by decide))).2.2]
    exact mf.2.2.2.2.2.2.1
theorem mM1_len {x p : Int} : (mM1 U w x p).length ≤ 1 := by
  unfold mM1
  split
  · exact Nat.le_refl _
  · exact Nat.zero_le _
/-- the names of one try (pc 92-146) -/
theorem lk_2i (b9 : 0 ≤ U 9 w ∧ U 9 w ≤ 12) (b19 : U 19 w ≤ 120) (qv : QV U) {D : List Int} {s : Int} (hs : As w U s) (s9 : U 20 s = 9) {l1 : Option am_V} : ∀ (d n : Nat) (h : am_H) (v : vT) (L : List tMi), n + d = (U 30 s).toNat → CR h v → LKS R A T w p0 v U oc (clM U w A D s n) ov L → L.length + d ≤ 14000 →
    (∀ h' v', CR h' v' → LKS R A T w p0 v' U oc (clM U w A D s (U 30 s).toNat) ov (L ++ tCat (fun k => mM1 U w (U 31 (4 * s + k)) (U 32 (4 * s + k))) d n) → RM (R 9) v v' (4 * d) (40 * d) → Fw (XLk v) v v' → Rn (r + 1) 85 146 [some (vR (some (R 0))), l1, some (vR (some (A 2 s))), some (vI (iI (U 30 s)))] [] h' Q) → Rn (r + 1) 85 92 [some (vR (some (R 0))), l1, some (vR (some (A 2 s))), some (vI (iI n))] [] h Q := by
  have b30 := QV_b qv (f := 30) (c := 4) rfl rfl rfl s
  intro d
  induction d with
  | zero =>
    intro n h v L hn c ls hl q
    obtain ⟨gu, gl, ml, ru⟩ := id ls
    obtain ⟨k36, d8, d10, l5, l6, l7, l9, ⟨t5, t6, t7, t9⟩, ⟨k5, k6, k7, k9⟩, ⟨r5, r6, r7, r9⟩, ⟨n5, n6⟩, q5, q6, q7, q9⟩ := (gu.2.2.2.2.1 s hs).2.2.2.2.2.2.2.2.1 s9
    rw [sX1_link_92, sX1_link_93, sX1_link_94 (c.kk k36 (by decide)), c.rr k36 rfl, r5, sX1_link_97 (c.kk k5 (by decide)), v_size c k5, Kt_v, sX1_link_100, n5, if_pos (by rw [iI_le (by omega) (by omega) (by omega) (by omega)]; omega)]
    have en : (U 30 s).toNat = n := by omega
    rw [en] at q
    have ei : iI (U 30 s) = iI n := by rw [show U 30 s = (n : Int) by omega]
    rw [ei] at q
    exact q h v c (by rw [show tCat (fun k => mM1 U w (U 31 (4 * s + k)) (U 32 (4 * s + k))) 0 (n : Int) = [] from rfl, List.append_nil]; exact ls) ⟨Nat.le_refl _, by simp, Nat.le_refl _, by simp, Nat.le_refl _⟩ Fw.refl
  | succ d ih =>
    intro n h v L hn c ls hl q
    obtain ⟨gu, gl, ml, ru⟩ := id ls
    obtain ⟨k36, d8, d10, l5, l6, l7, l9, ⟨t5, t6, t7, t9⟩, ⟨k5, k6, k7, k9⟩, ⟨r5, r6, r7, r9⟩, ⟨n5, n6⟩, q5, q6, q7, q9⟩ := (gu.2.2.2.2.1 s hs).2.2.2.2.2.2.2.2.1 s9
    have k0 := ru.1
    obtain ⟨ta, te, t1, t2, t3⟩ := q5 n (by omega) (by omega)
    obtain ⟨e, e1, e2⟩ := q6 n (by omega) (by omega)
    have ke : hK h e = 8 ∨ hK h e = 9 := by
      rcases e2.1 with z | z
      · exact Or.inl (c.kk z (by decide))
      · exact Or.inr (c.kk z (by decide))
    have p32 := qv 32 (4 * s + n)
    rw [sX1_link_92, sX1_link_93, sX1_link_94 (c.kk k36 (by decide)), c.rr k36 rfl, r5, sX1_link_97 (c.kk k5 (by decide)), v_size c k5, Kt_v, sX1_link_100, n5, if_neg (by rw [iI_le (by omega) (by omega) (by omega) (by omega)]; omega), sX1_link_103, sX1_link_104 (c.kk k36 (by decide)), c.rr k36 rfl, r7, sX1_link_107, sX1_link_108, sX1_link_109 (c.kk k36 (by decide)), c.rr k36 rfl, r5, sX1_link_112, sX1_link_113 (c.kk k5 (by decide)), v_get c k5 (by omega) (by rw [n5]; omega), Kt_v, te, sX1_link_116 (by rw [c.kk t1 (by decide)]; decide), sX1_link_119, sX1_link_120 (c.kk k36 (by decide)), c.rr k36 rfl, r6, sX1_link_123, sX1_link_124 (c.kk k6 (by decide)), v_get c k6 (by omega) (by rw [n6]; omega), Kt_v, e1, sX1_link_127 (by rcases ke with z | z <;> rw [z] <;> decide), sX1_link_130 (by omega) (by omega), v_intValue c e2, Kt_v, sX1_link_133 (c.kk k0 (by decide))]
    refine c_meth (x := U 31 (4 * s + n)) c ls (by omega) b9 ⟨ta, rfl, t1, t2, t3⟩ ⟨p32.1, p32.2.2 rfl⟩ (fun h1 v1 c1 ls1 rm1 f1 => ?_)
    have k71 : hK v1.1 l7 = 4 := f1.kk k7 (by decide)
    have gu1 := ls1.1
    have r71 : hR v1.1 (A 2 s) 7 = some l7 := by rw [(f1.ff (k := 7) (hK_lt k36 (by decide)) (fun y => by omega)).2.2]; exact r7
    have l7v : vLs v1 l7 = clN U w A s n := by
      obtain ⟨_, _, _, m5, m6, m7, m9, _, ⟨_, _, j7, _⟩, ⟨_, _, r7', _⟩, _, _, _, q7', _⟩ := (gu1.2.2.2.2.1 s hs).2.2.2.2.2.2.2.2.1 s9
      rw [r71] at r7'
      cases r7'
      rw [q7']
      unfold clM
      rw [if_pos rfl]
    have len7 : (vLs v1 l7).length = n := by rw [l7v]; unfold clN; rw [List.length_map, List.length_range]
    have mb := mO_b (U := U) (w := w) (x := U 31 (4 * s + n)) b9
    have ok : okW v1 (optA (A 1) (mO U w (U 31 (4 * s + n)))) := by
      unfold optA
      by_cases z : mO U w (U 31 (4 * s + n)) = -1
      · rw [if_pos z]
        trivial
      · rw [if_neg z]
        have k18 := (gu1.2.2.1.2.2.2 (mO U w (U 31 (4 * s + n))) (by omega) (by omega)).1
        exact ⟨by rw [k18]; decide, by rw [k18]; decide⟩
    rw [Kt_v, sX1_link_136 (c1.kk k71 (by decide))]
    refine v_add c1 k71 ok (by omega) (fun h2 n' s' c' c2 gw => ?_)
    obtain ⟨w1, w2, w3, w4, w5, w6, w7, w8⟩ := grw_b gw (c1.cp k71)
    rw [Kt_v, sX1_link_139, sX1_link_140, sX1_link_143]
    have ec : vLs v1 l7 ++ [optA (A 1) (mO U w (U 31 (4 * s + n)))] = clM U w A D s (n + 1) s := by
      unfold clM
      rw [if_pos rfl, clN_sn, l7v]
    rw [ec] at c2
    obtain ⟨ls2, f2⟩ := LS_cl (cl' := clM U w A D s (n + 1)) (n' := n') (s' := s') (c' := c') ls1 hs b19 s9 r71 w1 (fun t ht => by unfold clM; rw [if_neg ht, if_neg ht])
    have nn : (iI (n : Int) : Int32) + 1 = iI ((n + 1 : Nat) : Int) := by
      rw [show (1 : Int32) = iI 1 from rfl, iI_add]
      rfl
    rw [nn]
    have k9l : R 9 ≠ l7 := fun q => by
      have := gu.2.2.2.1.2.2.1
      rw [q, t7] at this
      omega
    have cp2 : vCp (vsL (vbm v1 n' s') l7 (clM U w A D s (n + 1) s) c') (R 9) = vCp v1 (R 9) := by rw [vCp_sL, if_neg k9l]; rfl
    refine ih (n + 1) _ _ _ (by omega) c2 ls2 ?_ (fun h' v' c'' ls' rm' f' => ?_)
    · rw [List.length_append]
      have := mM1_len (U := U) (w := w) (x := U 31 (4 * s + n)) (p := U 32 (4 * s + n))
      omega
    · refine q h' v' c'' ?_ ?_ ?_
      · rw [tCat_s, ← List.append_assoc]
        exact ls'
      · have rm2 : RM (R 9) v1 (vsL (vbm v1 n' s') l7 (clM U w A D s (n + 1) s) c') 1 20 := ⟨w1, by show ((n' : Nat) : Int) ≤ _; omega, w3, by rw [cp2]; show ((s' : Nat) : Int) + _ ≤ _; omega, by rw [cp2]; exact Nat.le_refl _⟩
        exact ((rm1.trans rm2).trans rm').le (by omega) (by omega)
      · exact XLk_tr (XLk_tr (f1.mono (fun a k y => Or.inl (by rw [y.1]; exact gu.2.2.2.1.2.2.2.2))) (f2.mono (fun a k y => Or.inl (by rw [y.1]; exact k71)))) f'
theorem lk_2 (b9 : 0 ≤ U 9 w ∧ U 9 w ≤ 12) (b19 : U 19 w ≤ 120) (qv : QV U) : ∀ (E D : List Int) (h : am_H) (v : vT) (L : List tMi) (l2 : Option am_V), stL U w (fun s => decide (U 20 s = 9)) = D ++ E → CR h v → LKS R A T w p0 v U oc (clL U w A D) ov L → L.length + 4 * E.length ≤ 13000 →
    (∀ h' v' l2' l3', CR h' v' → LKS R A T w p0 v' U oc (clL U w A (D ++ E)) ov (L ++ E.flatMap (mL2 U w)) → RM (R 9) v v' (16 * E.length) (160 * E.length) → Fw (XLk v) v v' → Rn (r + 1) 85 152 [some (vR (some (R 0))), some (vI (iI (D ++ E).length)), l2', l3'] [] h' Q) → Rn (r + 1) 85 67 [some (vR (some (R 0))), some (vI (iI D.length)), l2, l3] [] h Q := by
  intro E
  induction E generalizing l3 with
  | nil =>
    intro D h v L l2 hC c ls hl q
    obtain ⟨gu, gl, ml, ru⟩ := id ls
    obtain ⟨b1, b2, b3⟩ := gl.2.2.2.1
    have k0 := ru.1
    rw [List.append_nil] at hC q
    have len : (vLs v (R 12)).length = D.length := by rw [b3, hC, List.length_map]
    have dl : D.length ≤ 120 := by
      rw [← hC]
      unfold stL
      refine Nat.le_trans (List.length_filter_le _ _) ?_
      rw [List.length_map, List.length_range]
      omega
    rw [sX1_link_67, sX1_link_68, sX1_link_69 (c.kk k0 (by decide)), c.rr k0 rfl, b1, sX1_link_72 (c.kk b2 (by decide)), v_size c b2, Kt_v, sX1_link_75, len, if_pos (by rw [iI_le (by omega) (by omega) (by omega) (by omega)]; exact Int.le_refl _)]
    exact q h v _ _ c (by simpa using ls) ⟨Nat.le_refl _, by simp, Nat.le_refl _, by simp, Nat.le_refl _⟩ Fw.refl
  | cons s E ih =>
    intro D h v L l2 hC c ls hl q
    obtain ⟨gu, gl, ml, ru⟩ := id ls
    obtain ⟨b1, b2, b3⟩ := gl.2.2.2.1
    have k0 := ru.1
    have b30 := QV_b qv (f := 30) (c := 4) rfl rfl rfl s
    have len : (vLs v (R 12)).length = D.length + (E.length + 1) := by rw [b3, hC, List.length_map, List.length_append, List.length_cons]
    have dl : D.length + (E.length + 1) ≤ 120 := by
      rw [← len, b3, List.length_map]
      unfold stL
      refine Nat.le_trans (List.length_filter_le _ _) ?_
      rw [List.length_map, List.length_range]
      omega
    have hsA : As w U s ∧ U 20 s = 9 := by
      have : s ∈ stL U w (fun s => decide (U 20 s = 9)) := by rw [hC]; simp
      obtain ⟨x, y⟩ := stL_in.mp this
      exact ⟨x, by simpa using y⟩
    have nd : s ∉ D := fun hm => by
      have nd := stL_nodup (U := U) (w := w) (p := fun s => decide (U 20 s = 9))
      rw [hC, List.nodup_append] at nd
      exact nd.2.2 s hm s (by simp) rfl
    have k36 := ((gu.2.2.2.2.1 s hsA.1).2.2.2.2.2.2.2.2.1 hsA.2).1
    have ge : (vLs v (R 12)).getD ((D.length : Int)).toNat none = some (A 2 s) := by rw [b3, hC, Int.toNat_natCast]; exact map_getD _ D E s none
    rw [sX1_link_67, sX1_link_68, sX1_link_69 (c.kk k0 (by decide)), c.rr k0 rfl, b1, sX1_link_72 (c.kk b2 (by decide)), v_size c b2, Kt_v, sX1_link_75, len, if_neg (by rw [iI_le (by omega) (by omega) (by omega) (by omega)]; omega), sX1_link_78, sX1_link_79 (c.kk k0 (by decide)), c.rr k0 rfl, b1, sX1_link_82, sX1_link_83 (c.kk b2 (by decide)), v_get c b2 (by omega) (by rw [len]; omega), Kt_v, ge, sX1_link_86 (by rw [c.kk k36 (by decide)]; decide), sX1_link_89, sX1_link_90, sX1_link_91]
    have e0 : clL U w A D = clM U w A D s 0 := by
      funext t
      unfold clM clL clN
      by_cases y : t = s
      · rw [if_pos y, y, if_neg nd]
        rfl
      · rw [if_neg y]
    rw [e0] at ls
    rw [show (0 : Int32) = iI ((0 : Nat) : Int) from rfl]
    refine lk_2i b9 b19 qv hsA.1 hsA.2 (U 30 s).toNat 0 h v L (by omega) c ls (by rw [List.length_cons] at hl; omega) (fun h1 v1 c1 ls1 rm1 f1 => ?_)
    rw [sX1_link_146, sX1_link_149]
    have e2 : clM U w A D s (U 30 s).toNat = clL U w A (D ++ [s]) := by
      funext t
      unfold clM clL
      by_cases y : t = s
      · rw [if_pos y, if_pos (by simp [y]), y]
      · rw [if_neg y]
        by_cases z : t ∈ D
        · rw [if_pos z, if_pos (by simp [z])]
        · rw [if_neg z, if_neg (by simp [z, y])]
    rw [e2] at ls1
    have nn : (iI (D.length : Int) : Int32) + 1 = iI ((D ++ [s]).length : Int) := by
      rw [show (1 : Int32) = iI 1 from rfl, iI_add, List.length_append]
      rfl
    rw [nn]
    refine ih (D ++ [s]) _ _ _ _ (by rw [hC, List.append_assoc]; rfl) c1 ls1 ?_ (fun h' v' l2' l3' c' ls' rm' f' => ?_)
    · rw [List.length_append]
      have := tCat_len (f := fun k => mM1 U w (U 31 (4 * s + k)) (U 32 (4 * s + k))) (n := 1) (U 30 s).toNat ((0 : Nat) : Int) (fun k _ _ => mM1_len)
      rw [List.length_cons] at hl
      omega
    · have e3 : D ++ s :: E = D ++ [s] ++ E := by rw [List.append_assoc]; rfl
      rw [e3] at q
      refine q h' v' l2' l3' c' ?_ ?_ (XLk_tr f1 f')
      · have e4 : L ++ (s :: E).flatMap (mL2 U w) = L ++ mL2 U w s ++ E.flatMap (mL2 U w) := by
          rw [List.flatMap_cons, List.append_assoc]
        rw [e4]
        exact ls'
      · refine (rm1.trans rm').le ?_ ?_
        · rw [List.length_cons]; omega
        · rw [List.length_cons]; omega
end LK2
