/-! COMPONENT, 109: link: throws (pc 152-215), methods (pc 215-279) *-/
def mL3 (U : tSt) (w s : Int) : List tMi := if isS U w (pO U (U 25 s) (U 22 s)).1 = true then [(12, (U 26 s, -1))] else []
/-- what methods are over, the first n -/
def ovL (U : tSt) (w : Int) (A : Nat → Int → Nat) (n : Int) (m : Int) : Option Nat := if m < n then (if U 12 (w * 12 + m) = 0 then none else optA (A 1) (mO U w (U 12 (w * 12 + m)))) else none
def mL4 (U : tSt) (w m : Int) : List tMi := if U 12 (w * 12 + m) = 0 then [] else mM1 U w (U 12 (w * 12 + m)) (U 13 (w * 12 + m))
section LK3
variable {R : Nat → Nat} {A : Nat → Int → Nat} {T : Nat → Nat} {w p0 : Int} {U : tSt} {r : Nat} {oc ov : Int → Option Nat} {cl : Int → List (Option Nat)} {Q : am_O → am_H → Prop} {l2 l3 : Option am_V}
theorem i_12' : (12 : Int32) = iI 12 := rfl
theorem mL3_len {s : Int} : (mL3 U w s).length ≤ 1 := by
  unfold mL3
  split
  · exact Nat.le_refl _
  · exact Nat.zero_le _
theorem lk_3 (pq : PQ w U) (w0 : 0 ≤ w) (b19 : U 19 w ≤ 120) (qv : QV U) : ∀ (E D : List Int) (h : am_H) (v : vT) (L : List tMi), stL U w (isO U) = D ++ E → CR h v → LKS R A T w p0 v U oc cl ov L → L.length + E.length ≤ 14000 →
    (∀ h' v', CR h' v' → LKS R A T w p0 v' U oc cl ov (L ++ E.flatMap (mL3 U w)) → RM (R 9) v v' (2 * E.length) (3 * E.length) → Fw (XLk v) v v' → Rn (r + 1) 85 215 [some (vR (some (R 0))), some (vI (iI (D ++ E).length)), l2, l3] [] h' Q) → Rn (r + 1) 85 154 [some (vR (some (R 0))), some (vI (iI D.length)), l2, l3] [] h Q := by
  intro E
  induction E with
  | nil =>
    intro D h v L hC c ls hl q
    obtain ⟨gu, gl, ml, ru⟩ := id ls
    obtain ⟨b1, b2, b3⟩ := gl.2.2.2.2.1
    have k0 := ru.1
    rw [List.append_nil] at hC q
    have len : (vLs v (R 13)).length = D.length := by rw [b3, hC, List.length_map]
    have dl : D.length ≤ 120 := by
      rw [← hC]
      unfold stL
      refine Nat.le_trans (List.length_filter_le _ _) ?_
      rw [List.length_map, List.length_range]
      omega
    rw [sX1_link_154, sX1_link_155, sX1_link_156 (c.kk k0 (by decide)), c.rr k0 rfl, b1, sX1_link_159 (c.kk b2 (by decide)), v_size c b2, Kt_v, sX1_link_162, len, if_pos (by rw [iI_le (by omega) (by omega) (by omega) (by omega)]; exact Int.le_refl _)]
    exact q h v c (by simpa using ls) ⟨Nat.le_refl _, by simp, Nat.le_refl _, by simp, Nat.le_refl _⟩ Fw.refl
  | cons s E ih =>
    intro D h v L hC c ls hl q
    obtain ⟨gu, gl, ml, ru⟩ := id ls
    obtain ⟨b1, b2, b3⟩ := gl.2.2.2.2.1
    obtain ⟨c1, c2⟩ := gl.2.2.2.2.2.1
    have k0 := ru.1
    have len : (vLs v (R 13)).length = D.length + (E.length + 1) := by rw [b3, hC, List.length_map, List.length_append, List.length_cons]
    have dl : D.length + (E.length + 1) ≤ 120 := by
      rw [← len, b3, List.length_map]
      unfold stL
      refine Nat.le_trans (List.length_filter_le _ _) ?_
      rw [List.length_map, List.length_range]
      omega
    have hsA : As w U s ∧ U 20 s = 2 ∧ (pO U (U 25 s) (U 22 s)).1 ≠ -1 := by
      have : s ∈ stL U w (isO U) := by rw [hC]; simp
      obtain ⟨x, y⟩ := stL_in.mp this
      unfold isO at y
      simp only [Bool.and_eq_true, decide_eq_true_eq] at y
      exact ⟨x, y.1.1, y.1.2⟩
    obtain ⟨a1, a2, a3⟩ := (gu.2.2.2.2.1 s hsA.1).2.2.2.2.1 hsA.2.1
    obtain ⟨p1, p2, p3⟩ := pO_As pq qv w0 (pq.1 s hsA.1).1 hsA.2.2
    obtain ⟨cf, ci, _⟩ := gu.2.2.2.2.2.2.2.1 _ p1 p2
    rw [optA_s hsA.2.2] at a2
    have ge : (vLs v (R 13)).getD ((D.length : Int)).toNat none = some (A 2 s) := by rw [b3, hC, Int.toNat_natCast]; exact map_getD _ D E s none
    obtain ⟨i1, i2, i3⟩ := c2
    obtain ⟨e, e1, e2⟩ := i3 D.length (by rw [hC, List.length_map, List.length_append, List.length_cons]; omega)
    rw [hC, map_getD] at e2
    have len11 : (vLs v (R 14)).length = D.length + (E.length + 1) := by rw [i2, hC, List.length_map, List.length_append, List.length_cons]
    have e1' : (vLs v (R 14)).getD ((D.length : Int)).toNat none = some e := by rw [Int.toNat_natCast]; exact e1
    have p26 := qv 26 s
    have p26' : U 26 s ≤ 100000 := p26.2.2 rfl
    have p26'' : -1 ≤ U 26 s := p26.1
    have ke : hK h e = 8 ∨ hK h e = 9 := by
      rcases e2.1 with z | z
      · exact Or.inl (c.kk z (by decide))
      · exact Or.inr (c.kk z (by decide))
    have nn : (iI (D.length : Int) : Int32) + 1 = iI ((D ++ [s]).length : Int) := by
      rw [show (1 : Int32) = iI 1 from rfl, iI_add, List.length_append]
      rfl
    have e3 : D ++ s :: E = D ++ [s] ++ E := by rw [List.append_assoc]; rfl
    have go : ∀ (h1 : am_H) (v1 : vT), CR h1 v1 → LKS R A T w p0 v1 U oc cl ov (L ++ mL3 U w s) → RM (R 9) v v1 2 3 → Fw (XLk v) v v1 → Rn (r + 1) 85 209 [some (vR (some (R 0))), some (vI (iI D.length)), l2, l3] [] h1 Q := by
      intro h1 v1 c1' ls1 rm1 f1
      rw [sX1_link_209, sX1_link_212, nn]
      refine ih (D ++ [s]) _ _ _ (by rw [hC, List.append_assoc]; rfl) c1' ls1 ?_ (fun h' v' c' ls' rm' f' => ?_)
      · rw [List.length_append]
        have : (mL3 U w s).length ≤ 1 := mL3_len
        have hl' : L.length + (E.length + 1) ≤ 14000 := hl
        omega
      · rw [e3] at q
        refine q h' v' c' ?_ ?_ (XLk_tr f1 f')
        · have e4 : L ++ (s :: E).flatMap (mL3 U w) = L ++ mL3 U w s ++ E.flatMap (mL3 U w) := by rw [List.flatMap_cons, List.append_assoc]
          rw [e4]
          exact ls'
        · refine (rm1.trans rm').le ?_ ?_
          · rw [List.length_cons]; omega
          · rw [List.length_cons]; omega
    rw [sX1_link_154, sX1_link_155, sX1_link_156 (c.kk k0 (by decide)), c.rr k0 rfl, b1, sX1_link_159 (c.kk b2 (by decide)), v_size c b2, Kt_v, sX1_link_162, len, if_neg (by rw [iI_le (by omega) (by omega) (by omega) (by omega)]; omega), sX1_link_165, sX1_link_166 (c.kk k0 (by decide)), c.rr k0 rfl, b1, sX1_link_169, sX1_link_170 (c.kk b2 (by decide)), v_get c b2 (by omega) (by rw [len]; omega), Kt_v, ge, sX1_link_173 (by rw [c.kk a1 (by decide)]; decide), sX1_link_176 (c.kk a1 (by decide)), c.rr a1 rfl, a2, sX1_link_179 (c.kk cf.1 (by decide)), c.ii cf.1 rfl, ci, sX1_link_182, i_0]
    by_cases iS : isS U w (pO U (U 25 s) (U 22 s)).1 = true
    · have ex : mL3 U w s = [(12, (U 26 s, -1))] := by unfold mL3; rw [if_pos iS]
      rw [if_neg (fun y => (bI_0.mp y) iS), sX1_link_185, sX1_link_186 (c.kk k0 (by decide)), c.rr k0 rfl, ru.2.1, sX1_link_189, sX1_link_191, sX1_link_192 (c.kk k0 (by decide)), c.rr k0 rfl, c1, sX1_link_195, sX1_link_196 (c.kk i1 (by decide)), v_get c i1 (by omega) (by rw [len11]; omega), Kt_v, e1', sX1_link_199 (by rcases ke with z | z <;> rw [z] <;> decide), sX1_link_202 (by omega) (by omega), v_intValue c e2, Kt_v, sX1_link_205, sX1_link_206 (c.kk ru.2.2.1 (by decide)), i_m1, i_12']
      refine c_mi1 c ru.2.2.1 ru.2.2.2.2.2 ml.1 (by rw [insA_len]; simp; have hl' : L.length + (E.length + 1) ≤ 14000 := hl; omega) (by omega) (by omega) (by omega) (fun h2 v2 c2 f2 m2 => ?_)
      rw [Kt_0]
      obtain ⟨y1, y2, y3⟩ := LS_mi ls f2 m2
      refine go h2 v2 c2 (by rw [ex]; exact y1) (y2.le (by simp) (by simp)) y3
    · have ex : mL3 U w s = [] := by unfold mL3; rw [if_neg iS]
      rw [if_pos (bI_0.mpr iS)]
      exact go h v c (by rw [ex, List.append_nil]; exact ls) ⟨Nat.le_refl _, by omega, Nat.le_refl _, by omega, Nat.le_refl _⟩ Fw.refl
/-- what a method is over is set -/
theorem LS_ov {v : vT} {ov' : Int → Option Nat} {L : List tMi} {m : Int} {z : Option Nat} (ls : LKS R A T w p0 v U oc cl ov L) (h0 : 0 ≤ m) (h1 : m < U 9 w) (b9 : U 9 w ≤ 12) (e1 : ov' m = z) (e2 : ∀ t, t ≠ m → ov' t = ov t) : LKS R A T w p0 (vpR v (A 1 m) 6 z) U oc cl ov' L ∧ Fw (XLk v) v (vpR v (A 1 m) 6 z) := by
  obtain ⟨gu, gl, ml, ru⟩ := ls
  have mt := gu.2.2.1.2.2.2
  have k18 := (mt m h0 h1).1
  have f : Fw (fun a k => a = A 1 m ∧ k = 6) v (vpR v (A 1 m) 6 z) := Fw.refl.pR (Or.inr ⟨rfl, rfl⟩)
  have hx : ∀ a k, (a = A 1 m ∧ k = 6) → a < hN v.1 → XA v T (R 9) (hN v.1) 0 a k := fun a k y _ => Or.inr (Or.inr (Or.inr ⟨by rw [y.1]; exact k18, y.2⟩))
  have fa : FA (fun a k => a = A 1 m ∧ k = 6) v (vpR v (A 1 m) 6 z) T (R 9) (hN v.1) 0 := ⟨f, hx, gu.2.2.2.1.1.1, gu.2.2.2.1.2.2.2.2⟩
  have nk : ∀ {a n : Nat} {k : Nat}, hK v.1 a = n → n ≠ 18 → ¬ (a = A 1 m ∧ k = 6) := fun e hn y => by rw [y.1, k18] at e; omega
  refine ⟨⟨GU_a (ov' := ov') gu f hx (fun t ht => Or.inl ⟨?_, by omega, rfl, rfl⟩) (fun t h0' h1' => ?_), GL_a gl fa ru.1 ru.2.2.1 (fun k => nk ru.1 (by decide)), ML_fw f ml (fun y => by omega) (fun a k y hk => by omega), RUn_fw f ru (nk ru.1 (by decide)) (fun k _ => nk ru.2.2.1 (by decide))⟩, f.mono (fun a k y => Or.inr (Or.inl (by rw [y.1]; exact k18)))⟩
  · have := (gu.2.2.2.2.1 t ht).1.1
    have := hK_lt (a := A 2 t) (h := v.1) rfl (by omega)
    omega
  · by_cases e : t = m
    · rw [e, e1, vpR_1, hR_putR, if_pos ⟨rfl, rfl⟩]
    · have mf := mt t h0' h1'
      rw [e2 t e, (f.ff (k := 6) (hK_lt mf.1 (by decide)) (fun y => ?_)).2.2]
      · exact mf.2.2.2.2.2.2.1
      · have i1 := mf.2.1
        rw [y.1, (mt m h0 h1).2.1, iI_eq (by omega) (by omega) (by omega) (by omega)] at i1
        exact e i1.symm
theorem lk_4 (b9 : 0 ≤ U 9 w ∧ U 9 w ≤ 12) (qv : QV U) : ∀ (d : Nat) (n : Int) (h : am_H) (v : vT) (L : List tMi) (l2 : Option am_V), 0 ≤ n → n + d = U 9 w → CR h v → LKS R A T w p0 v U oc cl (ovL U w A n) L → L.length + d ≤ 14000 →
    (∀ h' v', CR h' v' → LKS R A T w p0 v' U oc cl (ovL U w A (U 9 w)) (L ++ tCat (mL4 U w) d n) → RM (R 9) v v' (2 * d) (3 * d) → Fw (XLk v) v v' → Q (Sum.inl none) h') → Rn (r + 1) 85 217 [some (vR (some (R 0))), some (vI (iI n)), l2, l3] [] h Q := by
  intro d
  induction d with
  | zero =>
    intro n h v L l2 n0 hn c ls hl q
    obtain ⟨gu, gl, ml, ru⟩ := id ls
    obtain ⟨m1, m2, m3⟩ := gu.2.2.1.1
    have k0 := ru.1
    rw [sX1_link_217, sX1_link_218, sX1_link_219 (c.kk k0 (by decide)), c.rr k0 rfl, ru.2.1, sX1_link_222 (c.kk ru.2.2.1 (by decide)), c.rr ru.2.2.1 rfl, m1, sX1_link_225 (c.kk m2 (by decide)), v_size c m2, Kt_v, sX1_link_228, m3, rowL_len, if_pos (by rw [iI_le (by omega) (by omega) (by omega) (by omega)]; omega), sX1_link_279]
    have en : U 9 w = n := by omega
    rw [en] at q
    exact q h v c (by rw [show tCat (mL4 U w) 0 n = [] from rfl, List.append_nil]; exact ls) ⟨Nat.le_refl _, by simp, Nat.le_refl _, by simp, Nat.le_refl _⟩ Fw.refl
  | succ d ih =>
    intro n h v L l2 n0 hn c ls hl q
    obtain ⟨gu, gl, ml, ru⟩ := id ls
    obtain ⟨m1, m2, m3⟩ := gu.2.2.1.1
    have k0 := ru.1
    have mf := gu.2.2.1.2.2.2 n n0 (by omega)
    obtain ⟨f1, f2, f3, f4, f5, f6, f7, f8, f9⟩ := mf
    have nn : (iI n : Int32) + 1 = iI (n + 1) := by rw [show (1 : Int32) = iI 1 from rfl, iI_add]
    have put : ∀ (h1 : am_H) (v1 : vT) (z : Option Nat), CR h1 v1 → LKS R A T w p0 v1 U oc cl (ovL U w A n) (L ++ mL4 U w n) → RM (R 9) v v1 2 3 → Fw (XLk v) v v1 → hK v1.1 (A 1 n) = 18 → z = ovL U w A (n + 1) n → Rn (r + 1) 85 270 [some (vR (some (R 0))), some (vI (iI n)), some (vR (some (A 1 n))), l3] [vR z, vR (some (A 1 n))] h1 Q := by
      intro h1 v1 z c1 ls1 rm1 F1 k18 ez
      rw [sX1_link_270 (c1.kk k18 (by decide)), sX1_link_273, sX1_link_276, nn]
      have c2 := CR_pR (k := 6) (z := z) c1 k18 rfl
      obtain ⟨ls2, F2⟩ := LS_ov (ov' := ovL U w A (n + 1)) (z := z) ls1 n0 (by omega) b9.2 ez.symm (fun t ht => by
        unfold ovL
        by_cases y : t < n
        · rw [if_pos y, if_pos (by omega)]
        · rw [if_neg y, if_neg (by omega)])
      refine ih (n + 1) _ _ _ _ (by omega) (by omega) c2 ls2 ?_ (fun h' v' c' ls' rm' f' => ?_)
      · rw [List.length_append]
        have : (mL4 U w n).length ≤ 1 := by
          unfold mL4
          split
          · exact Nat.zero_le _
          · exact mM1_len
        omega
      · refine q h' v' c' ?_ ?_ (XLk_tr (XLk_tr F1 F2) f')
        · rw [tCat_s, ← List.append_assoc]
          exact ls'
        · have rm2 : RM (R 9) v1 (vpR v1 (A 1 n) 6 z) 0 0 := ⟨Nat.le_refl _, by show ((hN v1.1 : Nat) : Int) ≤ _; omega, Nat.le_refl _, by show ((hS v1.1 : Nat) : Int) + 4 * vCp v1 (R 9) ≤ hS v1.1 + 4 * vCp v1 (R 9) + 0; omega, Nat.le_refl _⟩
          exact ((rm1.trans rm2).trans rm').le (by omega) (by omega)
    rw [sX1_link_217, sX1_link_218, sX1_link_219 (c.kk k0 (by decide)), c.rr k0 rfl, ru.2.1, sX1_link_222 (c.kk ru.2.2.1 (by decide)), c.rr ru.2.2.1 rfl, m1, sX1_link_225 (c.kk m2 (by decide)), v_size c m2, Kt_v, sX1_link_228, m3, rowL_len, if_neg (by rw [iI_le (by omega) (by omega) (by omega) (by omega)]; omega), sX1_link_231, sX1_link_232 (c.kk k0 (by decide)), c.rr k0 rfl, ru.2.1, sX1_link_235 (c.kk ru.2.2.1 (by decide)), c.rr ru.2.2.1 rfl, m1, sX1_link_238, sX1_link_239 (c.kk m2 (by decide)), v_get c m2 (by omega) (by rw [m3, rowL_len]; omega), Kt_v, m3, rowL_get (by omega) (by omega), show (0 : Int) + n = n by omega, sX1_link_242 (by rw [c.kk f1 (by decide)]; decide), sX1_link_245, sX1_link_246, sX1_link_247, sX1_link_248 (c.kk f1 (by decide)), c.rr f1 rfl, sX1_link_251]
    by_cases z : U 12 (w * 12 + n) = 0
    · rw [f5 z, if_neg (fun y => y rfl), sX1_link_254, sX1_link_255]
      have ex : mL4 U w n = [] := by unfold mL4; rw [if_pos z]
      exact put h v none c (by rw [ex, List.append_nil]; exact ls) ⟨Nat.le_refl _, by omega, Nat.le_refl _, by omega, Nat.le_refl _⟩ Fw.refl f1 (by unfold ovL; rw [if_pos (by omega), if_pos z])
    · obtain ⟨⟨ta, te, t1, t2, t3⟩, i5⟩ := f6 z
      have ex : mL4 U w n = mM1 U w (U 12 (w * 12 + n)) (U 13 (w * 12 + n)) := by unfold mL4; rw [if_neg z]
      have p13 := qv 13 (w * 12 + n)
      rw [te, if_pos (by simp), sX1_link_258, sX1_link_259, sX1_link_260 (c.kk f1 (by decide)), c.rr f1 rfl, te, sX1_link_263, sX1_link_264 (c.kk f1 (by decide)), c.ii f1 rfl, i5, sX1_link_267 (c.kk k0 (by decide))]
      refine c_meth (x := U 12 (w * 12 + n)) c ls (by omega) b9 ⟨ta, rfl, t1, t2, t3⟩ ⟨p13.1, p13.2.2 rfl⟩ (fun h1 v1 c1 ls1 rm1 F1 => ?_)
      rw [Kt_v]
      exact put h1 v1 _ c1 (by rw [ex]; exact ls1) rm1 (F1.mono (fun a k y => Or.inl (by rw [y.1]; exact gu.2.2.2.1.2.2.2.2))) (F1.kk f1 (by decide)) (by unfold ovL; rw [if_pos (by omega), if_neg z])
/-- the mistakes of linking -/
def mLk (U : tSt) (w : Int) : List tMi := (stL U w (fun s => decide (U 20 s = 1))).flatMap (mL1 U w) ++ ((stL U w (fun s => decide (U 20 s = 9))).flatMap (mL2 U w) ++ ((stL U w (isO U)).flatMap (mL3 U w) ++ tCat (mL4 U w) (U 9 w).toNat 0))
theorem stL_le {p : Int → Bool} (b19 : 0 ≤ U 19 w ∧ U 19 w ≤ 120) : (stL U w p).length ≤ 120 := by
  unfold stL
  refine Nat.le_trans (List.length_filter_le _ _) ?_
  rw [List.length_map, List.length_range]
  omega
theorem flat_len {g : Int → List tMi} {n : Nat} : ∀ (E : List Int), (∀ s, s ∈ E → (g s).length ≤ n) → (E.flatMap g).length ≤ n * E.length := by
  intro E
  induction E with
  | nil => intro _; simp
  | cons s E ih =>
    intro h
    rw [List.flatMap_cons, List.length_append, List.length_cons]
    have a := h s List.mem_cons_self
    have b := ih (fun t ht => h t (List.mem_cons_of_mem _ ht))
    rw [Nat.mul_succ]
    omega
theorem c_link {h : am_H} {v : vT} {L : List tMi} (c : CR h v) (pq : PQ w U) (w0 : 0 ≤ w) (qv : QV U) (ls : LKS R A T w p0 v U (fun _ => none) (fun _ => []) (fun _ => none) L) (hl : L.length ≤ 2600)
    (q : ∀ h' v', CR h' v' → LKS R A T w p0 v' U (ocL U w A (stL U w (fun s => decide (U 20 s = 1)))) (clL U w A (stL U w (fun s => decide (U 20 s = 9)))) (ovL U w A (U 9 w)) (L ++ mLk U w) → RM (R 9) v v' 3000 30000 → Fw (XLk v) v v' → Q (Sum.inl none) h') : Cl (r + 1) 85 [vR (some (R 0))] h Q := by
  have b9 := QV_b qv (f := 9) (c := 12) rfl rfl rfl w
  have b19 := QV_b qv (f := 19) (c := 120) rfl rfl rfl w
  have e1 : (fun _ : Int => (none : Option Nat)) = ocL U w A [] := by funext s; unfold ocL; rw [if_neg (by simp)]
  have e2 : (fun _ : Int => ([] : List (Option Nat))) = clL U w A [] := by funext s; unfold clL; rw [if_neg (by simp)]
  have c1 := stL_le (U := U) (w := w) (p := fun s => decide (U 20 s = 1)) b19
  have c2 := stL_le (U := U) (w := w) (p := fun s => decide (U 20 s = 9)) b19
  have c3 := stL_le (U := U) (w := w) (p := isO U) b19
  have x1 := flat_len (g := mL1 U w) (n := 1) (stL U w (fun s => decide (U 20 s = 1))) (fun s _ => mL1_len)
  have x2 := flat_len (g := mL2 U w) (n := 4) (stL U w (fun s => decide (U 20 s = 9))) (fun s _ => by
    have b30 := QV_b qv (f := 30) (c := 4) rfl rfl rfl s
    have := tCat_len (f := fun k => mM1 U w (U 31 (4 * s + k)) (U 32 (4 * s + k))) (n := 1) (U 30 s).toNat 0 (fun k _ _ => mM1_len)
    unfold mL2
    omega)
  have x3 := flat_len (g := mL3 U w) (n := 1) (stL U w (isO U)) (fun s _ => mL3_len)
  rw [eX1_link, sX1_link_0, sX1_link_1, show (0 : Int32) = iI (([] : List Int).length : Int) from rfl]
  rw [e1] at ls
  refine lk_1 b9 b19.2 qv (stL U w (fun s => decide (U 20 s = 1))) [] h v L rfl c ls (by omega) (fun h1 v1 cr1 ls1 rm1 f1 => ?_)
  rw [List.nil_append] at ls1 ⊢
  rw [sX1_link_65, sX1_link_66, show (0 : Int32) = iI (([] : List Int).length : Int) from rfl]
  rw [e2] at ls1
  refine lk_2 b9 b19.2 qv (stL U w (fun s => decide (U 20 s = 9))) [] h1 v1 _ _ rfl cr1 ls1 (by rw [List.length_append]; omega) (fun h2 v2 l2' l3' cr2 ls2 rm2 f2 => ?_)
  rw [List.nil_append] at ls2 ⊢
  rw [sX1_link_152, sX1_link_153, show (0 : Int32) = iI (([] : List Int).length : Int) from rfl]
  refine lk_3 pq w0 b19.2 qv (stL U w (isO U)) [] h2 v2 _ rfl cr2 ls2 (by rw [List.length_append, List.length_append]; omega) (fun h3 v3 cr3 ls3 rm3 f3 => ?_)
  rw [sX1_link_215, sX1_link_216, show (0 : Int32) = iI 0 from rfl]
  have e4 : (fun _ : Int => (none : Option Nat)) = ovL U w A 0 ∨ True := Or.inr trivial
  have e5 : ∀ m, 0 ≤ m → ovL U w A 0 m = none := fun m hm => by unfold ovL; rw [if_neg (by omega)]
  have ls3' : LKS R A T w p0 v3 U (ocL U w A (stL U w (fun s => decide (U 20 s = 1)))) (clL U w A (stL U w (fun s => decide (U 20 s = 9)))) (ovL U w A 0) (L ++ (stL U w (fun s => decide (U 20 s = 1))).flatMap (mL1 U w) ++ (stL U w (fun s => decide (U 20 s = 9))).flatMap (mL2 U w) ++ (stL U w (isO U)).flatMap (mL3 U w)) := by
    obtain ⟨gu, y⟩ := ls3
    refine ⟨?_, y⟩
    obtain ⟨u1, u2, ⟨m1, m2, m3, m4⟩, u4⟩ := gu
    refine ⟨u1, u2, ⟨m1, m2, m3, fun m h0 h1 => ?_⟩, u4⟩
    have x := m4 m h0 h1
    unfold MF at x ⊢
    rw [e5 m h0]
    exact x
  refine lk_4 b9 qv (U 9 w).toNat 0 h3 v3 _ _ (Int.le_refl _) (by omega) cr3 ls3' (by rw [List.length_append, List.length_append, List.length_append]; omega) (fun h4 v4 cr4 ls4 rm4 f4 => ?_)
  refine q h4 v4 cr4 ?_ ((((rm1.trans rm2).trans rm3).trans rm4).le (by omega) (by omega)) (XLk_tr (XLk_tr (XLk_tr f1 f2) f3) f4)
  unfold mLk
  rw [← List.append_assoc, ← List.append_assoc, ← List.append_assoc]
  exact ls4
end LK3
