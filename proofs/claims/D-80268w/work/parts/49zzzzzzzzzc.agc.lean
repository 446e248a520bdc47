/-! COMPONENT, 119: what a parameter can be when it is thrown again (285): the code *-/
section AGC
variable {R : Nat → Nat} {A : Nat → Int → Nat} {T : Nat → Nat} {w p0 s cc : Int} {U : tSt} {c l g : Int → Int} {v : vT} {r lk : Nat} {h : am_H} {Q : am_O → am_H → Prop} {l2 : Option am_V}
/-- caught kinds -/
theorem ag_in (kx : KX h v (R 3) (R 4) U w (A 0)) (kc : hK v.1 (A 4 cc) = 22) (rc : hR v.1 (A 4 cc) 1 = some lk) {pf : Int → Int} (nl : NL v (A 0) lk (U 37 cc) (cK U w cc) pf) (b37 : U 37 cc ≤ 4) {may k : Int} (hm : sOk may) (hk : 0 ≤ k ∧ k < U 3 w) (sh : sHas may k = true) :
    ∀ (n : Nat) (i b : Int) (l7 : Option am_V), 0 ≤ i → i + n = U 37 cc → sOk b → (∀ l6 l7, Rn r 285 217 [some (vR (some (A 4 cc))), some (vR (some (R 3))), l2, some (vI (iI may)), some (vI (iI (tFor (agI U w cc k) n i b))), some (vI (iI k)), l6, l7] [] h Q) →
    Rn r 285 104 [some (vR (some (A 4 cc))), some (vR (some (R 3))), l2, some (vI (iI may)), some (vI (iI b)), some (vI (iI k)), some (vI (iI i)), l7] [] h Q := by
  have cr := kx.1
  obtain ⟨ku, ru, n3, kk, sz, gt, kl⟩ := kx.raw
  obtain ⟨kl', n0, sz', gt'⟩ := nl.raw cr
  have kch := cr.kk kc (by decide)
  have rch : hR h (A 4 cc) 1 = some lk := by rw [cr.rr kc rfl, rc]
  intro n
  induction n with
  | zero =>
    intro i b l7 i0 hi hb q
    rw [sX22_again_104, sX22_again_106, sX22_again_107 kch, rch, sX22_again_110 kl', sz', Kt_v, sX22_again_113, if_pos (by rw [iI_le (by omega) (by omega) (by omega) (by omega)]; omega)]
    exact q _ _
  | succ n ih =>
    intro i b l7 i0 hi hb q
    obtain ⟨e, ge, ke, re, _⟩ := gt' i i0 (by omega)
    have ej : iI i + (1 : Int32) = iI (i + 1) := by rw [i_1, iI_add]
    have bt : (iI may >>> (iI k &&& 31)) &&& (1 : Int32) = iI 1 := by
      have := iI_has hm hk.1 (by omega : k < 16)
      rw [if_pos sh] at this
      exact this
    have cb := kO_b (U := U) (w := w) (x := U 38 (4 * cc + i)) (a := U 39 (4 * cc + i)) n3
    have cb' : -1 ≤ cK U w cc i ∧ cK U w cc i < U 3 w := cb
    rw [sX22_again_104, sX22_again_106, sX22_again_107 kch, rch, sX22_again_110 kl', sz', Kt_v, sX22_again_113, if_neg (by rw [iI_le (by omega) (by omega) (by omega) (by omega)]; omega), sX22_again_116, sX22_again_117, sX22_again_119, sX22_again_120, sX22_again_121, bt, sX22_again_122, sX22_again_123, if_neg (by decide), sX22_again_126, sX22_again_127 kch, rch, sX22_again_130, sX22_again_132 kl', ge, Kt_v, sX22_again_135 (by rw [ke]; decide), sX22_again_138 ke, re, sX22_again_141, sX22_again_143, sX22_again_145]
    rw [tFor] at q
    by_cases z : cK U w cc i = -1
    · rw [z, optA_n, if_pos rfl, sX22_again_211, ej, sX22_again_214]
      refine ih (i + 1) b _ (by omega) (by omega) hb ?_
      have : agI U w cc k i b = b := by unfold agI; rw [if_pos z]
      rw [this] at q
      exact q
    · obtain ⟨a1, a2, _⟩ := kk (cK U w cc i) (by omega) cb'.2
      obtain ⟨a3, a4, _⟩ := kk k hk.1 hk.2
      have fin : ∀ q0 : Int, sOk q0 → agI U w cc k i b = sOr b q0 → Rn r 285 208 [some (vR (some (A 4 cc))), some (vR (some (R 3))), l2, some (vI (iI may)), some (vI (iI b)), some (vI (iI k)), some (vI (iI i)), some (vR (some (A 0 (cK U w cc i))))] [vI (iI q0), vI (iI b)] h Q := fun q0 hq e0 => by
        rw [sX22_again_208, iI_or hb hq, sX22_again_209, sX22_again_211, ej, sX22_again_214, ← e0]
        exact ih (i + 1) _ _ (by omega) (by omega) (by rw [e0]; exact sOr_ok hb hq) q
      have eI : agI U w cc k i b = sOr b (agF U w k (cK U w cc i)) := by unfold agI; rw [if_neg z]
      rw [optA_s z, if_neg (by simp), sX22_again_148, sX22_again_150, sX22_again_151 ku, ru, sX22_again_154, sX22_again_156 kl, gt _ k _ hk.1 hk.2, Kt_v, sX22_again_159 (by rw [a3]; decide), sX22_again_162, sX22_again_164 a3, c_isBelow kx hk ⟨by omega, cb'.2⟩, Kt_v, sX22_again_167]
      by_cases y : bel U w k (cK U w cc i) = true
      · have es : (1 : Int32) <<< (iI k &&& 31) = iI (sBit k) := iI_shl (by omega) (by omega)
        rw [if_neg (by rw [bI_t y]; decide), sX22_again_170, sX22_again_171, sX22_again_173, es, sX22_again_174]
        refine fin _ (sBit_ok (by omega) (by omega)) ?_
        rw [eI]
        unfold agF sOnly
        rw [if_pos y, if_neg (by omega)]
      · rw [if_pos (by rw [bI_f y]; rfl), sX22_again_177, sX22_again_179, sX22_again_180 ku, ru, sX22_again_183, sX22_again_185 kl, gt _ k _ hk.1 hk.2, Kt_v, sX22_again_188 (by rw [a3]; decide), sX22_again_191 a1, c_isBelow kx ⟨by omega, cb'.2⟩ hk, Kt_v, sX22_again_194]
        by_cases x : bel U w (cK U w cc i) k = true
        · have es : (1 : Int32) <<< (iI (cK U w cc i) &&& 31) = iI (sBit (cK U w cc i)) := iI_shl (by omega) (by omega)
          rw [if_neg (by rw [bI_t x]; decide), sX22_again_197, sX22_again_198, sX22_again_200 a1, a2, sX22_again_203, es, sX22_again_204]
          refine fin _ (sBit_ok (by omega) (by omega)) ?_
          rw [eI]
          unfold agF sOnly
          rw [if_neg y, if_pos x, if_neg z]
        · rw [if_pos (by rw [bI_f x]; rfl), sX22_again_207]
          refine fin 0 sOk0 ?_
          rw [eI]
          unfold agF
          rw [if_neg y, if_neg x]
theorem ag_out (kx : KX h v (R 3) (R 4) U w (A 0)) (kc : hK v.1 (A 4 cc) = 22) (rc : hR v.1 (A 4 cc) 1 = some lk) {pf : Int → Int} (nl : NL v (A 0) lk (U 37 cc) (cK U w cc) pf) (b37 : U 37 cc ≤ 4) {may : Int} (hm : sOk may) (q : Q (Sum.inl (some (vI (iI (agC U w cc may))))) h) :
    ∀ (n : Nat) (k b : Int) (l6 l7 : Option am_V), 0 ≤ k → k + n = U 3 w → sOk b → tFor (fun k a => if sHas may k = true then tFor (agI U w cc k) (U 37 cc).toNat 0 a else a) n k b = agC U w cc may →
    Rn r 285 89 [some (vR (some (A 4 cc))), some (vR (some (R 3))), l2, some (vI (iI may)), some (vI (iI b)), some (vI (iI k)), l6, l7] [] h Q := by
  have cr := kx.1
  obtain ⟨ku, ru, n3, kk, sz, gt, kl⟩ := kx.raw
  obtain ⟨kl', n0, sz', gt'⟩ := nl.raw cr
  have kch := cr.kk kc (by decide)
  have rch : hR h (A 4 cc) 1 = some lk := by rw [cr.rr kc rfl, rc]
  intro n
  induction n with
  | zero =>
    intro k b l6 l7 k0 hk hb e
    rw [sX22_again_89, sX22_again_91, sX22_again_92 ku, ru, sX22_again_95 kl, sz, Kt_v, sX22_again_98, if_pos (by rw [iI_le (by omega) (by omega) (by omega) (by omega)]; omega), sX22_again_223, sX22_again_225]
    rw [← e] at q
    exact q
  | succ n ih =>
    intro k b l6 l7 k0 hk hb e
    have ej : iI k + (1 : Int32) = iI (k + 1) := by rw [i_1, iI_add]
    rw [tFor] at e
    rw [sX22_again_89, sX22_again_91, sX22_again_92 ku, ru, sX22_again_95 kl, sz, Kt_v, sX22_again_98, if_neg (by rw [iI_le (by omega) (by omega) (by omega) (by omega)]; omega), sX22_again_101, sX22_again_102]
    by_cases sh : sHas may k = true
    · rw [if_pos sh] at e
      refine ag_in kx kc rc nl b37 hm ⟨k0, by omega⟩ sh (U 37 cc).toNat 0 b l7 (Int.le_refl _) (by omega) hb (fun l6 l7 => ?_)
      rw [sX22_again_217, ej, sX22_again_220]
      refine ih (k + 1) _ l6 l7 (by omega) (by omega) ?_ e
      exact tFor_okk (fun i a _ _ ha => agI_ok kx.2.2 ⟨k0, by omega⟩ ha) _ _ _ (Int.le_refl _) (by omega) hb
    · rw [if_neg sh] at e
      have bt : (iI may >>> (iI k &&& 31)) &&& (1 : Int32) = iI 0 := by
        have := iI_has hm k0 (by omega : k < 16)
        rw [if_neg sh] at this
        exact this
      have out : Rn r 285 217 [some (vR (some (A 4 cc))), some (vR (some (R 3))), l2, some (vI (iI may)), some (vI (iI b)), some (vI (iI k)), some (vI 0), l7] [] h Q := by
        rw [sX22_again_217, ej, sX22_again_220]
        exact ih (k + 1) b _ l7 (by omega) (by omega) hb e
      rw [sX22_again_104, sX22_again_106, sX22_again_107 kch, rch, sX22_again_110 kl', sz', Kt_v, sX22_again_113]
      split
      · exact out
      · rw [sX22_again_116, sX22_again_117, sX22_again_119, sX22_again_120, sX22_again_121, bt, sX22_again_122, sX22_again_123, if_pos (by decide)]
        exact out
theorem CFx (gx : GX R A T w p0 v U) (hc : As w U (cc / 4) ∧ cc % 4 < U 33 (cc / 4)) : CF v A T U w cc ∧ hI v.1 (A 4 cc) 4 = bI (isS U w cc = true) ∧ hR v.1 (A 4 cc) 3 = some (A 3 (U 34 cc)) := gx.2.2.2.2.2.2.2.1 cc hc.1 hc.2
/-- the catches ahead -/
theorem ag_ah (j : JP w g U c l) (cr : CR h v) (gx : GX R A T w p0 v U) (hc : As w U (cc / 4) ∧ cc % 4 < U 33 (cc / 4)) (e9 : U 20 (cc / 4) = 9) {l4 l5 l6 l7 : Option am_V} (q : ∀ l3, Rn r 285 65 [some (vR (some (A 4 cc))), some (vR (some (R 3))), some (vI (iI (ahd U w cc))), l3, l4, l5, l6, l7] [] h Q) :
    ∀ (n : Nat) (i a : Int), 0 ≤ i → i + n = cc % 4 → sOk a → tFor (fun k a => sOr a (cBy U w k)) n (cc / 4 * 4 + i) a = ahd U w cc → Rn r 285 20 [some (vR (some (A 4 cc))), some (vR (some (R 3))), some (vI (iI a)), some (vI (iI i)), l4, l5, l6, l7] [] h Q := by
  have qw := j.2.1.2.2.1
  have kx : KX h v (R 3) (R 4) U w (A 0) := ⟨cr, gx.1.1, qw⟩
  have b33 := QV_b j.2.1.2.1 (f := 33) (c := 4) rfl rfl rfl (cc / 4)
  have k5 := gx.1.1.1
  have fc := (CFx gx hc).1
  have kc := fc.1
  have r0 := fc.2.2.1
  obtain ⟨kt, l9, kl, r9, lv⟩ : hK v.1 (A 2 (cc / 4)) = 36 ∧ ∃ l9, hK v.1 l9 = 4 ∧ hR v.1 (A 2 (cc / 4)) 9 = some l9 ∧ vLs v l9 = rowL (A 4) (4 * (cc / 4)) (U 33 (cc / 4)) := by
    obtain ⟨_, _, _, _, _, _, _, f9, _⟩ := gx.fs hc.1
    obtain ⟨k1, _, _, l5, l6, l7, l9, _, ⟨_, _, _, kl⟩, ⟨_, _, _, r9⟩, _, _, _, _, lv⟩ := f9 e9
    exact ⟨k1, l9, kl, r9, lv⟩
  have len : (vLs v l9).length = (U 33 (cc / 4)).toNat := by rw [lv, rowL_len]
  intro n
  induction n with
  | zero =>
    intro i a i0 hi ha e
    have ge : (vLs v l9).getD i.toNat none = some (A 4 cc) := by
      rw [lv, rowL_get i0 (by omega)]
      congr 2
      omega
    have e' : a = ahd U w cc := e
    rw [sX22_again_20, sX22_again_21 (cr.kk kc (by decide)), cr.rr kc rfl, r0, sX22_again_24 (cr.kk kt (by decide)), cr.rr kt rfl, r9, sX22_again_27, sX22_again_28 (cr.kk kl (by decide)), v_get cr kl i0 (by rw [len]; omega), Kt_v, ge, sX22_again_31, sX22_again_32, if_pos rfl, e']
    exact q _
  | succ n ih =>
    intro i a i0 hi ha e
    have dc : As w U ((4 * (cc / 4) + i) / 4) ∧ (4 * (cc / 4) + i) % 4 < U 33 ((4 * (cc / 4) + i) / 4) := by
      rw [show (4 * (cc / 4) + i) / 4 = cc / 4 by omega]
      exact ⟨hc.1, by omega⟩
    have fd := (CFx gx dc).1
    obtain ⟨kd, _, _, _, ld, rd, _, nl⟩ := fd
    have ge : (vLs v l9).getD i.toNat none = some (A 4 (4 * (cc / 4) + i)) := by rw [lv, rowL_get i0 (by omega)]
    have ej : iI i + (1 : Int32) = iI (i + 1) := by rw [i_1, iI_add]
    have b37 := QV_b j.2.1.2.1 (f := 37) (c := 4) rfl rfl rfl (4 * (cc / 4) + i)
    have ne : ¬ (some (A 4 (4 * (cc / 4) + i)) = some (A 4 cc)) := fun y => by
      have := gx.2.2.2.2.2.2.2.2 _ _ dc.1 dc.2 hc.1 hc.2 (Option.some.inj y)
      omega
    rw [sX22_again_20, sX22_again_21 (cr.kk kc (by decide)), cr.rr kc rfl, r0, sX22_again_24 (cr.kk kt (by decide)), cr.rr kt rfl, r9, sX22_again_27, sX22_again_28 (cr.kk kl (by decide)), v_get cr kl i0 (by rw [len]; omega), Kt_v, ge, sX22_again_31, sX22_again_32, if_neg ne, sX22_again_35, sX22_again_36, sX22_again_37, sX22_again_38 (cr.kk kc (by decide)), cr.rr kc rfl, r0, sX22_again_41 (cr.kk kt (by decide)), cr.rr kt rfl, r9, sX22_again_44, sX22_again_45 (cr.kk kl (by decide)), v_get cr kl i0 (by rw [len]; omega), Kt_v, ge, sX22_again_48 (by rw [cr.kk kd (by decide)]; decide), sX22_again_51 (cr.kk kd (by decide)), cr.rr kd rfl, rd, sX22_again_54 (cr.kk k5 (by decide)), c_bitsOf kx nl (by omega) (fun i _ _ => kO_b qw.1), Kt_v, sX22_again_57]
    have cb : tFor (fun k a => sOr a (sOnly (cK U w (4 * (cc / 4) + i) k))) (U 37 (4 * (cc / 4) + i)).toNat 0 0 = cBy U w (cc / 4 * 4 + i) := by
      rw [show cc / 4 * 4 + i = 4 * (cc / 4) + i by omega]
      rfl
    rw [cb, iI_or ha (cBy_ok qw), sX22_again_58, sX22_again_59, ej, sX22_again_62]
    refine ih (i + 1) _ (by omega) (by omega) (sOr_ok ha (cBy_ok qw)) ?_
    rw [tFor] at e
    rw [show cc / 4 * 4 + (i + 1) = cc / 4 * 4 + i + 1 by omega]
    exact e
theorem c_again (j : JP w g U c l) (cr : CR h v) (gx : GX R A T w p0 v U) (hc : As w U (cc / 4) ∧ cc % 4 < U 33 (cc / 4)) (e9 : U 20 (cc / 4) = 9) (hi : IF A w U c v (cc / 4)) (q : Q (Sum.inl (some (vI (iI (if isS U w cc = true then cBy U w cc else agn U w c cc))))) h) : Cl r 285 [vR (some (A 4 cc)), vR (some (R 3))] h Q := by
  have qw := j.2.1.2.2.1
  have n3 := qw.1
  have kx : KX h v (R 3) (R 4) U w (A 0) := ⟨cr, gx.1.1, qw⟩
  have k5 := gx.1.1.1
  obtain ⟨⟨kc, _, r0, _, lk, rk, _, nl⟩, i4, _⟩ := CFx gx hc
  have b37 := QV_b j.2.1.2.1 (f := 37) (c := 4) rfl rfl rfl cc
  have kt : hK v.1 (A 2 (cc / 4)) = 36 := by
    obtain ⟨_, _, _, _, _, _, _, f9, _⟩ := gx.fs hc.1
    exact (f9 e9).1
  rw [eX22_again, sX22_again_0, sX22_again_1 (cr.kk kc (by decide)), cr.ii kc rfl, i4, sX22_again_4]
  by_cases z : isS U w cc = true
  · rw [if_neg (by rw [bI_t z]; decide), sX22_again_7, sX22_again_8, sX22_again_9 (cr.kk kc (by decide)), cr.rr kc rfl, rk, sX22_again_12 (cr.kk k5 (by decide)), c_bitsOf kx nl (by omega) (fun i _ _ => kO_b qw.1), Kt_v, sX22_again_15]
    rw [if_pos z] at q
    exact q
  · rw [if_neg z] at q
    rw [if_pos (by rw [bI_f z]; rfl), sX22_again_16, sX22_again_17, sX22_again_18, sX22_again_19]
    have bd := bo27 j hc.1 (by omega)
    have io : sOk (ins U w c (cc / 4)) := by unfold ins; exact sOr_ok (bCk j bd.1) (nmO_ok qw)
    refine ag_ah (l4 := none) (l5 := none) (l6 := none) (l7 := none) j cr gx hc e9 (fun l3 => ?_) (cc % 4).toNat 0 0 (Int.le_refl _) (by omega) sOk0 (by
      unfold ahd
      rw [show (cc % 4).toNat = (cc - cc / 4 * 4).toNat by omega, Int.add_zero])
    have o4 : sOk 4 := by unfold sOk; omega
    have o8 : sOk 8 := by unfold sOk; omega
    have e12 : sOr (sOr (ins U w c (cc / 4)) 4) 8 = sOr (ins U w c (cc / 4)) 12 := by rw [sOr_assoc]; rfl
    have o12 := sOr_ok (sOr_ok io o4) o8
    rw [sX22_again_65, sX22_again_66, sX22_again_67 (cr.kk kc (by decide)), cr.rr kc rfl, r0, sX22_again_70 (cr.kk kt (by decide)), cr.ii kt rfl, show hI v.1 (A 2 (cc / 4)) 11 = iI (ins U w c (cc / 4)) from hi, sX22_again_73, sX22_again_74, show (4 : Int32) = iI 4 from rfl, iI_or io o4, sX22_again_75, sX22_again_77, show (8 : Int32) = iI 8 from rfl, iI_or (sOr_ok io o4) o8, sX22_again_78, sX22_again_79 (cr.kk k5 (by decide)), c_without kx o12 (ahd_ok qw), Kt_v, sX22_again_82, sX22_again_83, sX22_again_84, sX22_again_86, sX22_again_87]
    rw [e12]
    refine ag_out kx kc rk nl (by omega) (wout_ok qw) ?_ (U 3 w).toNat 0 0 _ _ (Int.le_refl _) (by omega) sOk0 rfl
    rw [agC_eq qw]
    exact q
end AGC
