/-! COMPONENT, 121: mistakes of a catch (286) *-/
section JMS
variable {R : Nat → Nat} {A : Nat → Int → Nat} {T : Nat → Nat} {w p0 s cc a o p : Int} {U : tSt} {c l g : Int → Int} {L0 X Z : List tMi} {v0 v v' : vT} {Nd N Bs : List Int} {r lk : Nat} {h : am_H} {Q : am_O → am_H → Prop} {l0 l1 l2 l3 l4 l5 l6 l7 l8 l9 l10 l11 : Option am_V}
/-- one mistake of s -/
theorem jk_m1 (j : JP w g U c l) (hs : As w U s) (hX : X.length ≤ 800) (cr : CR h v) (jk : JK R A T w p0 U c l L0 Nd X s v0 v N Z Bs) (hi : IF A w U c v s) (hZ : Z.length ≤ 90) {x y k : Int} (hx : 0 ≤ x ∧ x ≤ 20) (hy : -1 ≤ y ∧ y ≤ 100000) (hk : -1 ≤ k ∧ k ≤ 20)
    (q : ∀ h' v', CR h' v' → JK R A T w p0 U c l L0 Nd X s v0 v' N (Z ++ [(x, (y, k))]) Bs → IF A w U c v' s → Q (Sum.inl none) h') : Cl r 130 [vR (some (R 3)), vI (iI x), vI (iI y), vI (iI k)] h Q := by
  have qv := j.2.1.2.1
  have b19 := QV_b qv (f := 19) (c := 120) rfl rfl rfl w
  obtain ⟨E0, e1, e2, e3⟩ := SJ_len jk.1 (fun x _ => mJs_l qv x) b19
  refine c_mi1 cr jk.gx.1.1.1 jk.gx.1.2.1 e1.1 (by omega) (by omega) (by omega) (by omega) (fun h2 v2 c2 F2 m2 => ?_)
  obtain ⟨jk2, kp⟩ := jk_mi j hs jk e2 e1 F2 m2 hX (by rw [List.length_append, List.length_singleton]; omega)
  refine q h2 v2 c2 jk2 ?_
  unfold IF
  rw [(kp s hs).2.2]
  exact hi
theorem jm_may (kx : KX h v (R 3) (R 4) U w (A 0)) (ha : 0 ≤ a ∧ a < U 3 w) {sm : Int} (hsm : sOk sm) {F : Bool} (q : ∀ l9, Rn r 286 179 [l0, some (vR (some (R 3))), l2, l3, l4, some (vR (some (A 0 a))), l6, some (vI (bI (F = true))), some (vI (iI sm)), l9, l10, l11] [] h Q) :
    ∀ (n : Nat) (k : Int) (b : Bool), 0 ≤ k → k + n = U 3 w → tFor (fun k z => z || (sHas sm k && (bel U w k a || bel U w a k))) n k b = F → Rn r 286 100 [l0, some (vR (some (R 3))), l2, l3, l4, some (vR (some (A 0 a))), l6, some (vI (bI (b = true))), some (vI (iI sm)), some (vI (iI k)), l10, l11] [] h Q := by
  obtain ⟨ku, ru, n3, kk, sz, gt, kl⟩ := kx.raw
  intro n
  induction n with
  | zero =>
    intro k b k0 hk e
    rw [sX20_judge_100, sX20_judge_102, sX20_judge_103 ku, ru, sX20_judge_106 kl, sz, Kt_v, sX20_judge_109, if_pos (by rw [iI_le (by omega) (by omega) (by omega) (by omega)]; omega)]
    have e' : b = F := e
    rw [e']
    exact q _
  | succ n ih =>
    intro k b k0 hk e
    have ej : iI k + (1 : Int32) = iI (k + 1) := by rw [i_1, iI_add]
    obtain ⟨a1, a2, _⟩ := kk a ha.1 ha.2
    obtain ⟨a3, a4, _⟩ := kk k k0 (by omega)
    rw [tFor] at e
    have fin : ∀ t : Bool, (sHas sm k && (bel U w k a || bel U w a k)) = t → Rn r 286 170 [l0, some (vR (some (R 3))), l2, l3, l4, some (vR (some (A 0 a))), l6, some (vI (bI (b = true))), some (vI (iI sm)), some (vI (iI k)), l10, l11] [vI (bI (t = true)), vI (bI (b = true))] h Q := fun t et => by
      rw [sX20_judge_170, bI_or, sX20_judge_171, sX20_judge_173, ej, sX20_judge_176]
      rw [et] at e
      exact ih (k + 1) _ (by omega) (by omega) e
    rw [sX20_judge_100, sX20_judge_102, sX20_judge_103 ku, ru, sX20_judge_106 kl, sz, Kt_v, sX20_judge_109, if_neg (by rw [iI_le (by omega) (by omega) (by omega) (by omega)]; omega), sX20_judge_112, sX20_judge_114, sX20_judge_116, sX20_judge_118, sX20_judge_119, sX20_judge_120]
    by_cases sh : sHas sm k = true
    · have bt : (iI sm >>> (iI k &&& 31)) &&& (1 : Int32) = iI 1 := by
        have := iI_has hsm k0 (by omega : k < 16)
        rw [if_pos sh] at this
        exact this
      rw [bt, sX20_judge_121, sX20_judge_122, if_neg (by decide), sX20_judge_125, sX20_judge_126 ku, ru, sX20_judge_129, sX20_judge_131 kl, gt _ k _ k0 (by omega), Kt_v, sX20_judge_134 (by rw [a3]; decide), sX20_judge_137, sX20_judge_139 a3, c_isBelow kx ⟨k0, by omega⟩ ha, Kt_v, sX20_judge_142]
      by_cases y : bel U w k a = true
      · rw [if_pos (by rw [bI_t y]; decide), sX20_judge_165, sX20_judge_166]
        exact fin true (by rw [sh, y]; rfl)
      · have y' : bel U w k a = false := by simpa using y
        rw [if_neg (by rw [bI_f y]; decide), sX20_judge_145, sX20_judge_147, sX20_judge_148 ku, ru, sX20_judge_151, sX20_judge_153 kl, gt _ k _ k0 (by omega), Kt_v, sX20_judge_156 (by rw [a3]; decide), sX20_judge_159 a1, c_isBelow kx ha ⟨k0, by omega⟩, Kt_v, sX20_judge_162]
        by_cases x : bel U w a k = true
        · rw [if_neg (by rw [bI_t x]; decide), sX20_judge_165, sX20_judge_166]
          exact fin true (by rw [sh, y', x]; rfl)
        · have x' : bel U w a k = false := by simpa using x
          rw [if_pos (by rw [bI_f x]; rfl), sX20_judge_169]
          exact fin false (by rw [sh, y', x']; rfl)
    · have sh' : sHas sm k = false := by simpa using sh
      have bt : (iI sm >>> (iI k &&& 31)) &&& (1 : Int32) = iI 0 := by
        have := iI_has hsm k0 (by omega : k < 16)
        rw [if_neg sh] at this
        exact this
      rw [bt, sX20_judge_121, sX20_judge_122, if_pos (by decide), sX20_judge_169]
      exact fin false (by rw [sh']; rfl)
theorem jm_mt (kx : KX h v (R 3) (R 4) U w (A 0)) (kc : hK v.1 (A 4 cc) = 22) (rc : hR v.1 (A 4 cc) 1 = some lk) {pf : Int → Int} (nl : NL v (A 0) lk (U 37 cc) (cK U w cc) pf) (b37 : U 37 cc ≤ 4) (ha : 0 ≤ a ∧ a < U 3 w) {i : Int} (hi : 0 ≤ i ∧ i ≤ U 37 cc) {F : Bool} (q : ∀ l10 l11, Rn r 286 289 [l0, l1, some (vR (some (A 4 cc))), l3, some (vI (iI i)), some (vR (some (A 0 a))), l6, l7, l8, some (vI (bI (F = true))), l10, l11] [] h Q) :
    ∀ (n : Nat) (k : Int) (b : Bool) (l11 : Option am_V), 0 ≤ k → k + n = i → tFor (fun j z => z || (decide (cK U w cc j ≠ -1) && (bel U w a (cK U w cc j) || bel U w (cK U w cc j) a))) n k b = F → Rn r 286 224 [l0, l1, some (vR (some (A 4 cc))), l3, some (vI (iI i)), some (vR (some (A 0 a))), l6, l7, l8, some (vI (bI (b = true))), some (vI (iI k)), l11] [] h Q := by
  have cr := kx.1
  obtain ⟨ku, ru, n3, kk, sz, gt, kl⟩ := kx.raw
  obtain ⟨kl', n0, sz', gt'⟩ := nl.raw cr
  have kch := cr.kk kc (by decide)
  have rch : hR h (A 4 cc) 1 = some lk := by rw [cr.rr kc rfl, rc]
  intro n
  induction n with
  | zero =>
    intro k b l11 k0 hk e
    rw [sX20_judge_224, sX20_judge_226, sX20_judge_228, if_pos (by rw [iI_le (by omega) (by omega) (by omega) (by omega)]; omega)]
    have e' : b = F := e
    rw [e']
    exact q _ _
  | succ n ih =>
    intro k b l11 k0 hk e
    have ej : iI k + (1 : Int32) = iI (k + 1) := by rw [i_1, iI_add]
    obtain ⟨a1, a2, _⟩ := kk a ha.1 ha.2
    obtain ⟨en, ge, ke, re, _⟩ := gt' k k0 (by omega)
    have cb := kO_b (U := U) (w := w) (x := U 38 (4 * cc + k)) (a := U 39 (4 * cc + k)) n3
    have cb' : -1 ≤ cK U w cc k ∧ cK U w cc k < U 3 w := cb
    rw [tFor] at e
    have fin : ∀ (t : Bool) (l11 : Option am_V), (decide (cK U w cc k ≠ -1) && (bel U w a (cK U w cc k) || bel U w (cK U w cc k) a)) = t → Rn r 286 280 [l0, l1, some (vR (some (A 4 cc))), l3, some (vI (iI i)), some (vR (some (A 0 a))), l6, l7, l8, some (vI (bI (b = true))), some (vI (iI k)), l11] [vI (bI (t = true)), vI (bI (b = true))] h Q := fun t l11 et => by
      rw [sX20_judge_280, bI_or, sX20_judge_281, sX20_judge_283, ej, sX20_judge_286]
      rw [et] at e
      exact ih (k + 1) _ _ (by omega) (by omega) e
    rw [sX20_judge_224, sX20_judge_226, sX20_judge_228, if_neg (by rw [iI_le (by omega) (by omega) (by omega) (by omega)]; omega), sX20_judge_231, sX20_judge_232 kch, rch, sX20_judge_235, sX20_judge_237 kl', ge, Kt_v, sX20_judge_240 (by rw [ke]; decide), sX20_judge_243 ke, re, sX20_judge_246, sX20_judge_248, sX20_judge_250, sX20_judge_252]
    by_cases z : cK U w cc k = -1
    · rw [z, optA_n, if_pos rfl, sX20_judge_279]
      exact fin false _ (by rw [decide_eq_false (fun y => y z)]; rfl)
    · have dz : decide (cK U w cc k ≠ -1) = true := decide_eq_true z
      obtain ⟨a3, a4, _⟩ := kk (cK U w cc k) (by omega) cb'.2
      rw [optA_s z, if_neg (by simp), sX20_judge_255, sX20_judge_257, sX20_judge_259 a1, c_isBelow kx ha ⟨by omega, cb'.2⟩, Kt_v, sX20_judge_262]
      by_cases y : bel U w a (cK U w cc k) = true
      · rw [if_pos (by rw [bI_t y]; decide), sX20_judge_275, sX20_judge_276]
        exact fin true _ (by rw [dz, y]; rfl)
      · have y' : bel U w a (cK U w cc k) = false := by simpa using y
        rw [if_neg (by rw [bI_f y]; decide), sX20_judge_265, sX20_judge_267, sX20_judge_269 a3, c_isBelow kx ⟨by omega, cb'.2⟩ ha, Kt_v, sX20_judge_272]
        by_cases x : bel U w (cK U w cc k) a = true
        · rw [if_neg (by rw [bI_t x]; decide), sX20_judge_275, sX20_judge_276]
          exact fin true _ (by rw [dz, y', x]; rfl)
        · have x' : bel U w (cK U w cc k) a = false := by simpa using x
          rw [if_pos (by rw [bI_f x]; rfl), sX20_judge_279]
          exact fin false _ (by rw [dz, y', x']; rfl)
end JMS
