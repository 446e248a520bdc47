/-! COMPONENT, 125: Reader.judge (86) *-/
/-- mistakes of what a method tells, found by judging -/
def mTj (U : tSt) (w x v i : Int) : List tMi := if kO U w (U 16 (4 * x + i)) (U 17 (4 * x + i)) = -1 then [] else if v ≠ -1 ∧ chk U w (kO U w (U 16 (4 * x + i)) (U 17 (4 * x + i))) = true ∧ und U w (kO U w (U 16 (4 * x + i)) (U 17 (4 * x + i))) (thO U w v) = false then [(10, (U 17 (4 * x + i), kO U w (U 16 (4 * x + i)) (U 17 (4 * x + i))))] else []
def mJM (U : tSt) (w : Int) (c : Int → Int) (m : Int) : List tMi := mUnt U w (bC U w c (U 18 (w * 12 + m))) (thO U w m) (U 11 (w * 12 + m)) ++ tCat (mTj U w (w * 12 + m) (mOver U w (w * 12 + m))) (U 15 (w * 12 + m)).toNat 0
/-- blocks inside of the first k methods -/
def mU (w : Int) (U : tSt) (k b : Int) : Prop := ∃ m, 0 ≤ m ∧ m < k ∧ U 18 (w * 12 + m) ≠ -1 ∧ anc U b (U 18 (w * 12 + m))
/-- the unit and its reader while methods are judged -/
def RIj (R : Nat → Nat) (A : Nat → Int → Nat) (T : Nat → Nat) (w p0 : Int) (U : tSt) (c l : Int → Int) (L0 : List tMi) (v0 : vT) (n0 : Nat) (P : Int → Prop) (Nd : List Int) (v : vT) (X : List tMi) : Prop :=
  SJ R A T w p0 U c l L0 v Nd X ∧ JD A w U c l v P ∧ RM (R 9) v0 v (2 * (n0 + X.length : Nat)) (3 * (n0 + X.length : Nat)) ∧ Fw (XLk v0) v0 v ∧ (hK v.1 (R 0) = 2 ∧ hR v.1 (R 0) 7 = some (R 3))
section RJS
variable {R : Nat → Nat} {A : Nat → Int → Nat} {T : Nat → Nat} {w p0 m b b' k : Int} {U : tSt} {c l g : Int → Int} {L0 X : List tMi} {v0 v v' : vT} {n0 : Nat} {P : Int → Prop} {Nd : List Int} {r : Nat} {h : am_H} {Q : am_O → am_H → Prop} {l1 l2 l3 l4 : Option am_V}
theorem root_un : ∀ (n n' : Nat) (k b b' : Int), ancN U n k b → ancN U n' k b' → U 41 b = 0 → U 41 b' = 0 → b = b' := by
  intro n
  induction n with
  | zero =>
    intro n' k b b' h1 h2 r1 r2
    have e : k = b := h1
    cases n' with
    | zero => rw [← e]; exact h2
    | succ n' => rw [e] at h2; exact absurd r1 h2.1
  | succ n ih =>
    intro n' k b b' h1 h2 r1 r2
    cases n' with
    | zero =>
      have e : k = b' := h2
      rw [e] at h1
      exact absurd r2 h1.1
    | succ n' => exact ih n' _ b b' h1.2 h2.2 r1 r2
theorem RIj_r0 (f : Fw (XLk v) v v') (h : hK v.1 (R 0) = 2 ∧ hR v.1 (R 0) 7 = some (R 3)) : hK v'.1 (R 0) = 2 ∧ hR v'.1 (R 0) 7 = some (R 3) := by
  have lt := hK_lt h.1 (by decide)
  refine ⟨by rw [(f.2.2 _ lt).1]; exact h.1, ?_⟩
  rw [(f.ff (k := 7) lt (fun y => by unfold XLk at y; omega)).2.2]
  exact h.2
theorem ri_mi (pw : PW w U) (ri : RIj R A T w p0 U c l L0 v0 n0 P Nd v X) {xs E : List tMi} (e2 : E.Perm (Nd.flatMap (mJs U w c l) ++ X)) (ml : ML v (R 9) (insA [] (L0 ++ E))) (f : Fw (fun b k => b = R 9 ∧ k = 99) v v') (m : MiA v v' (R 9) (insA [] (L0 ++ E)) xs) (hX : (X ++ xs).length ≤ 2000) : RIj R A T w p0 U c l L0 v0 n0 P Nd v' (X ++ xs) := by
  obtain ⟨sj, jd, rm, fw, r0⟩ := ri
  obtain ⟨sj1, rm1, fw1, jf1⟩ := SJ_mi sj e2 ml f m hX
  refine ⟨sj1, jd.keep jf1 pw (fun _ _ _ y => y) (fun _ _ _ y => y), ?_, XLk_tr fw fw1, RIj_r0 fw1 r0⟩
  rw [List.length_append]
  exact (rm.trans rm1).le (by omega) (by omega)
/-- told kinds against what the method is over -/
theorem rj_told (j : JP w g U c l) (hm : 0 ≤ m ∧ m < U 9 w) :
    ∀ (n : Nat) (i : Int) (h : am_H) (v : vT) (X : List tMi) (l4 : Option am_V), 0 ≤ i → i + n = U 15 (w * 12 + m) → X.length + n ≤ 1000 → CR h v → RIj R A T w p0 U c l L0 v0 n0 P Nd v X →
    (∀ h' v' l3 l4, CR h' v' → RIj R A T w p0 U c l L0 v0 n0 P Nd v' (X ++ tCat (mTj U w (w * 12 + m) (mOver U w (w * 12 + m))) n i) → Rn r 86 191 [some (vR (some (R 0))), l1, some (vR (some (A 1 m))), l3, l4] [] h' Q) →
    Rn r 86 80 [some (vR (some (R 0))), l1, some (vR (some (A 1 m))), some (vI (iI i)), l4] [] h Q := by
  have qv := j.2.1.2.1
  have qw := j.2.1.2.2.1
  have b19 := QV_b qv (f := 19) (c := 120) rfl rfl rfl w
  have b15 := QV_b qv (f := 15) (c := 4) rfl rfl rfl (w * 12 + m)
  have ovE : ovL U w A (U 9 w) m = optA (A 1) (mOver U w (w * 12 + m)) := by
    unfold ovL mOver
    rw [if_pos hm.2]
    by_cases z : U 12 (w * 12 + m) = 0
    · rw [if_pos z, if_pos z]; rfl
    · rw [if_neg z, if_neg z]
  intro n
  induction n with
  | zero =>
    intro i h v X l4 i0 hi hX cr ri q
    have gx : GX R A T w p0 v U := ri.1.1
    obtain ⟨km, _, _, _, _, _, r6, ⟨ln, r7, _, nl⟩, _⟩ := gx.2.2.1.2.2.2 m hm.1 hm.2
    obtain ⟨kl', n0', sz', gt'⟩ := nl.raw cr
    rw [ovE] at r6
    have fin : ∀ l4, Rn r 86 191 [some (vR (some (R 0))), l1, some (vR (some (A 1 m))), some (vI (iI i)), l4] [] h Q := fun l4 => q h v _ l4 cr (by rw [show tCat (mTj U w (w * 12 + m) (mOver U w (w * 12 + m))) 0 i = [] from rfl, List.append_nil]; exact ri)
    rw [sX1_judge_80, sX1_judge_81 (cr.kk km (by decide)), cr.rr km rfl, r6, sX1_judge_84]
    split
    · exact fin _
    · rw [sX1_judge_87, sX1_judge_88, sX1_judge_89 (cr.kk km (by decide)), cr.rr km rfl, r7, sX1_judge_92 kl', sz', Kt_v, sX1_judge_95, if_pos (by rw [iI_le (by omega) (by omega) (by omega) (by omega)]; omega)]
      exact fin _
  | succ n ih =>
    intro i h v X l4 i0 hi hX cr ri q
    have gx : GX R A T w p0 v U := ri.1.1
    have kx : KX h v (R 3) (R 4) U w (A 0) := ⟨cr, gx.1.1, qw⟩
    obtain ⟨ku, ru, n3, kk, sz, gt, kl⟩ := kx.raw
    obtain ⟨km, _, _, _, _, _, r6, ⟨ln, r7, _, nl⟩, _⟩ := gx.2.2.1.2.2.2 m hm.1 hm.2
    obtain ⟨kl', n0', sz', gt'⟩ := nl.raw cr
    rw [ovE] at r6
    have k0 := ri.2.2.2.2.1
    have r07 := ri.2.2.2.2.2
    rw [sX1_judge_80, sX1_judge_81 (cr.kk km (by decide)), cr.rr km rfl, r6, sX1_judge_84]
    by_cases z : mOver U w (w * 12 + m) = -1
    · rw [z, optA_n, if_pos rfl]
      have all : ∀ (n : Nat) (i : Int), tCat (mTj U w (w * 12 + m) (-1)) n i = [] := by
        intro n
        induction n with
        | zero => intro i; rfl
        | succ n ih2 =>
          intro i
          rw [tCat_s, ih2, List.append_nil]
          unfold mTj
          split
          · rfl
          · rw [if_neg (fun y => y.1 rfl)]
      rw [z, all, List.append_nil] at q
      exact q h v _ _ cr ri
    · obtain ⟨en, ge, ke, re, pe⟩ := gt' i i0 (by omega)
      have ej : iI i + (1 : Int32) = iI (i + 1) := by rw [i_1, iI_add]
      have cb := kO_b (U := U) (w := w) (x := U 16 (4 * (w * 12 + m) + i)) (a := U 17 (4 * (w * 12 + m) + i)) n3
      have nx : ∀ (h' : am_H) (v' : vT) (l4 : Option am_V), CR h' v' → RIj R A T w p0 U c l L0 v0 n0 P Nd v' (X ++ mTj U w (w * 12 + m) (mOver U w (w * 12 + m)) i) → Rn r 86 185 [some (vR (some (R 0))), l1, some (vR (some (A 1 m))), some (vI (iI i)), l4] [] h' Q := fun h' v' l4 c' ri' => by
        rw [sX1_judge_185, ej, sX1_judge_188]
        have ml : (mTj U w (w * 12 + m) (mOver U w (w * 12 + m)) i).length ≤ 1 := by
          unfold mTj
          split
          · exact Nat.zero_le _
          · exact if_l1'
        refine ih (i + 1) h' v' _ l4 (by omega) (by omega) (by rw [List.length_append]; omega) c' ri' (fun h2 v2 l3 l4 c2 ri2 => q h2 v2 l3 l4 c2 ?_)
        rw [tCat_s, ← List.append_assoc]
        exact ri2
      unfold mTj at nx
      rw [optA_s z] at r6
      rw [optA_s z, if_neg (by simp), sX1_judge_87, sX1_judge_88, sX1_judge_89 (cr.kk km (by decide)), cr.rr km rfl, r7, sX1_judge_92 kl', sz', Kt_v, sX1_judge_95, if_neg (by rw [iI_le (by omega) (by omega) (by omega) (by omega)]; omega), sX1_judge_98, sX1_judge_99 (cr.kk km (by decide)), cr.rr km rfl, r7, sX1_judge_102, sX1_judge_103 kl', ge, Kt_v, sX1_judge_106 (by rw [ke]; decide), sX1_judge_109 ke, re, sX1_judge_112, sX1_judge_114, sX1_judge_116]
      have mvb : 0 ≤ mOver U w (w * 12 + m) ∧ mOver U w (w * 12 + m) < U 9 w := by
        have mb := mO_b (U := U) (w := w) (x := U 12 (w * 12 + m)) qw.2.1
        unfold mOver at z ⊢
        split
        · rename_i y
          rw [if_pos y] at z
          exact absurd rfl z
        · rename_i y
          rw [if_neg y] at z
          omega
      obtain ⟨kv, _, _, _, _, _, _, ⟨lv, rv, _, nlv⟩, _⟩ := gx.2.2.1.2.2.2 _ mvb.1 mvb.2
      have b15v := QV_b qv (f := 15) (c := 4) rfl rfl rfl (w * 12 + mOver U w (w * 12 + m))
      by_cases y : kO U w (U 16 (4 * (w * 12 + m) + i)) (U 17 (4 * (w * 12 + m) + i)) = -1
      · rw [if_pos y, List.append_nil] at nx
        rw [y, optA_n, if_pos rfl]
        exact nx h v _ cr ri
      · rw [if_neg y] at nx
        have ca : 0 ≤ kO U w (U 16 (4 * (w * 12 + m) + i)) (U 17 (4 * (w * 12 + m) + i)) ∧ kO U w (U 16 (4 * (w * 12 + m) + i)) (U 17 (4 * (w * 12 + m) + i)) < U 3 w := by omega
        obtain ⟨a1, a2, _⟩ := kk _ ca.1 ca.2
        rw [optA_s y, if_neg (by simp), sX1_judge_119, sX1_judge_120 (cr.kk k0 (by decide)), cr.rr k0 rfl, r07, sX1_judge_123, sX1_judge_125 ku, c_isChecked kx ca, Kt_v, sX1_judge_128]
        by_cases x : chk U w (kO U w (U 16 (4 * (w * 12 + m) + i)) (U 17 (4 * (w * 12 + m) + i))) = true
        · rw [if_neg (by rw [bI_t x]; decide), sX1_judge_131, sX1_judge_132 (cr.kk k0 (by decide)), cr.rr k0 rfl, r07, sX1_judge_135, sX1_judge_137, sX1_judge_138 (cr.kk k0 (by decide)), cr.rr k0 rfl, r07, sX1_judge_141, sX1_judge_142 (cr.kk km (by decide)), cr.rr km rfl, r6, sX1_judge_145 (cr.kk kv (by decide)), cr.rr kv rfl, rv, sX1_judge_148 ku, c_bitsOf kx nlv (by omega) (fun i _ _ => kO_b qw.1), Kt_v, ← thO_m z, sX1_judge_151 ku, c_isBelowAny kx ca (thO_ok qw), Kt_v, sX1_judge_154]
          by_cases u : und U w (kO U w (U 16 (4 * (w * 12 + m) + i)) (U 17 (4 * (w * 12 + m) + i))) (thO U w (mOver U w (w * 12 + m))) = true
          · rw [if_neg (fun t => by rw [u] at t; cases t.2.2), List.append_nil] at nx
            rw [if_pos (by rw [bI_t u]; decide)]
            exact nx h v _ cr ri
          · have u' : und U w (kO U w (U 16 (4 * (w * 12 + m) + i)) (U 17 (4 * (w * 12 + m) + i))) (thO U w (mOver U w (w * 12 + m))) = false := by simpa using u
            rw [if_pos ⟨z, x, u'⟩] at nx
            obtain ⟨E0, e1, e2, e3⟩ := SJ_len ri.1 (fun x _ => mJs_l qv x) b19
            have q17 := qv 17 (4 * (w * 12 + m) + i)
            have q17a : -1 ≤ U 17 (4 * (w * 12 + m) + i) := Int.le_trans (by decide) q17.1
            have q17b : U 17 (4 * (w * 12 + m) + i) ≤ 100000 := q17.2.2 rfl
            rw [if_neg (by rw [bI_f u]; decide), sX1_judge_157, sX1_judge_158 (cr.kk k0 (by decide)), cr.rr k0 rfl, r07, sX1_judge_161, sX1_judge_163, sX1_judge_164 (cr.kk km (by decide)), cr.rr km rfl, r7, sX1_judge_167, sX1_judge_168 kl', ge, Kt_v, sX1_judge_171 (by rw [ke]; decide), sX1_judge_174 ke, pe, sX1_judge_177, sX1_judge_179 a1, a2, sX1_judge_182 ku, show (10 : Int32) = iI 10 from rfl]
            refine c_mi1 cr gx.1.1.1 gx.1.2.1 e1.1 (by omega) (by omega) (by omega) (by omega) (fun h2 v2 c2 F2 m2 => ?_)
            rw [Kt_0]
            exact nx h2 v2 _ c2 (ri_mi j.pw ri e2 e1 F2 m2 (by rw [List.length_append, List.length_singleton]; omega))
        · rw [if_neg (fun t => x t.2.1), List.append_nil] at nx
          rw [if_pos (by rw [bI_f x]; rfl)]
          exact nx h v _ cr ri
end RJS
