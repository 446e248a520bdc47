/-! JDK: maps, 7: a new leaf of a tree, where it goes *-/
section PTL
variable {B : Nat → Prop} {h : am_H} {v : vT} {r m t a b rt : Nat} {z : Option Nat} {lo hi : Nat → Int} {Q : am_O → am_H → Prop} {T : List Int32}
/-- where a new key goes: below xp, to the left (dv ≤ 0) or to the right -/
def goes (h : am_H) (v : vT) (lo hi : Nat → Int) (N : Int) (xp : Nat) (dv : Int32) : Prop :=
  (dv ≤ 0 ∧ hR h xp 5 = none ∧ lo xp < N ∧ N < ndN h v xp) ∨ (0 < dv ∧ hR h xp 6 = none ∧ ndN h v xp < N ∧ N < hi xp)
theorem kN_lt {x : Nat} {hs : Int32} (e : hI h x 0 < hs) : ndN h v x < keyN hs T := by
  unfold ndN keyN
  have h1 := encT_lo 8 (ndT h v x)
  have h2 := encT_lo 8 T
  have h3 := Int32.lt_iff_toInt_lt.mp e
  omega
theorem kN_gt {x : Nat} {hs : Int32} (e : hs < hI h x 0) : keyN hs T < ndN h v x := by
  unfold ndN keyN
  have h1 := encT_lo 8 (ndT h v x)
  have h2 := encT_lo 8 T
  have h3 := Int32.lt_iff_toInt_lt.mp e
  omega
theorem kN_cmp {x : Nat} {hs : Int32} (e : hI h x 0 = hs) (kx : okK (ndT h v x)) (kT : okK T) (ne : T ≠ ndT h v x) : (cmpV T (ndT h v x) < 0 → keyN hs T < ndN h v x) ∧ (0 < cmpV T (ndT h v x) → ndN h v x < keyN hs T) := by
  unfold ndN keyN
  rw [e]
  have c := cmp_lt kT kx
  constructor
  · intro q
    have := c.mp q
    omega
  · intro q
    have d : encT 8 (ndT h v x) ≠ encT 8 T := fun w => ne (cmp_eq kx kT w).symm
    have : ¬ encT 8 T < encT 8 (ndT h v x) := fun w => by have := c.mpr w; omega
    omega
theorem pt_loop (tr : isTr h v B rt lo hi) (nd : ∀ x, B x → ndF h v x) (s : RS h a b T) (kT : okK T) (new : ∀ x, B x → ndT h v x ≠ T) (ku : hE h 33 = hE h 33) (k8 : T.length = 8 → hK h b = 44) {l0 : Option am_V}
    (K : ∀ xp dv kc l11 l12 l14 l15, B xp → goes h v lo hi (keyN (sprd (hashS T)) T) xp dv → Rn r 208 221 [l0, some (vR (some m)), some (vR (some t)), some (vI (sprd (hashS T))), some (vR (some a)), some (vR z), some (vR kc), some (vI 0), some (vR (some rt)), some (vR none), some (vI dv), l11, l12, some (vR (some xp)), l14, l15] [] h Q) :
    ∀ (d x : Nat), B x → (hi x - lo x).toNat ≤ d → lo x < keyN (sprd (hashS T)) T → keyN (sprd (hashS T)) T < hi x → ∀ kc l10 l11 l12 l13 l14 l15, (kc = none ∨ kc = some (hE h 40)) →
      Rn r 208 27 [l0, some (vR (some m)), some (vR (some t)), some (vI (sprd (hashS T))), some (vR (some a)), some (vR z), some (vR kc), some (vI 0), some (vR (some rt)), some (vR (some x)), l10, l11, l12, l13, l14, l15] [] h Q := by
  have tt := tr.tr
  intro d
  induction d with
  | zero =>
    intro x hx hd
    have := (tr.2.2.2.1 x hx).2
    omega
  | succ d ih =>
    intro x hx hd h1 h2 kc l10 l11 l12 l13 l14 l15 hkc
    obtain ⟨f1, f2, f3, k, kb, f4, f5, f6, f7⟩ := nd x hx
    have x13 : hK h x = 13 := (tr.2.2.2.1 x hx).1
    have goL : ∀ dv kc l11 l12 l13 l14 l15, dv ≤ 0 → (kc = none ∨ kc = some (hE h 40)) → keyN (sprd (hashS T)) T < ndN h v x → Rn r 208 193 [l0, some (vR (some m)), some (vR (some t)), some (vI (sprd (hashS T))), some (vR (some a)), some (vR z), some (vR kc), some (vI 0), some (vR (some rt)), some (vR (some x)), some (vI dv), l11, l12, l13, l14, l15] [] h Q := by
      intro dv kc l11 l12 l13 l14 l15 hdv hkc lt
      rw [sJ21_putTreeVal_193, sJ21_putTreeVal_195, sJ21_putTreeVal_197, sJ21_putTreeVal_199, if_neg (Int32.not_lt.mpr hdv), sJ21_putTreeVal_202, sJ21_putTreeVal_204 x13, sJ21_putTreeVal_207, sJ21_putTreeVal_215, sJ21_putTreeVal_216, sJ21_putTreeVal_218]
      cases hc : hR h x 5 with
      | none =>
        rw [if_neg (fun w => w rfl)]
        exact K x dv kc l11 l12 l14 l15 hx (Or.inl ⟨hdv, hc, h1, lt⟩)
      | some c =>
        have cl := tt.lf hx hc
        have c4 := (tr.2.2.2.1 c cl.1).2
        have x4 := (tr.2.2.2.1 x hx).2
        rw [if_pos (by simp), sJ21_putTreeVal_311]
        exact ih c cl.1 (by omega) (by omega) (by omega) _ _ _ _ _ _ _ hkc
    have goR : ∀ dv kc l11 l12 l13 l14 l15, 0 < dv → (kc = none ∨ kc = some (hE h 40)) → ndN h v x < keyN (sprd (hashS T)) T → Rn r 208 193 [l0, some (vR (some m)), some (vR (some t)), some (vI (sprd (hashS T))), some (vR (some a)), some (vR z), some (vR kc), some (vI 0), some (vR (some rt)), some (vR (some x)), some (vI dv), l11, l12, l13, l14, l15] [] h Q := by
      intro dv kc l11 l12 l13 l14 l15 hdv hkc lt
      rw [sJ21_putTreeVal_193, sJ21_putTreeVal_195, sJ21_putTreeVal_197, sJ21_putTreeVal_199, if_pos hdv, sJ21_putTreeVal_210, sJ21_putTreeVal_212 x13, sJ21_putTreeVal_215, sJ21_putTreeVal_216, sJ21_putTreeVal_218]
      cases hc : hR h x 6 with
      | none =>
        rw [if_neg (fun w => w rfl)]
        exact K x dv kc l11 l12 l14 l15 hx (Or.inr ⟨hdv, hc, lt, h2⟩)
      | some c =>
        have cl := tt.rt hx hc
        have c4 := (tr.2.2.2.1 c cl.1).2
        have x4 := (tr.2.2.2.1 x hx).2
        rw [if_pos (by simp), sJ21_putTreeVal_311]
        exact ih c cl.1 (by omega) (by omega) (by omega) _ _ _ _ _ _ _ hkc
    rw [sJ21_putTreeVal_27, sJ21_putTreeVal_29 x13, sJ21_putTreeVal_32, sJ21_putTreeVal_33, sJ21_putTreeVal_35, sJ21_putTreeVal_36]
    by_cases p1 : hI h x 0 ≤ sprd (hashS T)
    · rw [if_pos p1, sJ21_putTreeVal_45, sJ21_putTreeVal_47, sJ21_putTreeVal_48]
      by_cases p2 : sprd (hashS T) ≤ hI h x 0
      · have ph : hI h x 0 = sprd (hashS T) := Int32.le_antisymm p1 p2
        have nq : T ≠ ndT h v x := fun w => new x hx w.symm
        have w : ¬ some k = some a := by
          intro w
          have w' : k = a := Option.some.inj w
          subst w'
          have e := st_equals (r := 0) (Q := fun o _ => o = Sum.inl (some (vI 1))) s f5
          have e2 := st_equals (r := 0) (Q := fun o _ => o = Sum.inl (some (vI 1))) s s
          rw [e, if_neg nq, if_pos rfl] at e2
          exact absurd (e2.mpr rfl) (by simp)
        have eq : ∀ Q, Cl r 125 [vR (some a), vR (some k)] h Q ↔ _ := fun Q => st_equals s f5
        have cls : ∀ Q, Cl r 250 [vR (some a)] h Q ↔ _ := fun Q => cm_class s
        have cmp : ∀ Q, Cl r 251 [vR (some (hE h 40)), vR (some a), vR (some k)] h Q ↔ _ := fun Q => cm_cmp s f5 kT.1 f6.1 kT.b f6.b ku nq (fun z1 z2 => ⟨k8 z1, f7 z2⟩)
        have c0 := cmp_ne kT.b f6.b nq
        have cr := cmpV_rng (U := ndT h v x) kT.1 f6.1
        have kc2 := kN_cmp ph f6 kT nq
        have tail : ∀ l10 l11 l13 l14 l15 : Option am_V, Rn r 208 104 [l0, some (vR (some m)), some (vR (some t)), some (vI (sprd (hashS T))), some (vR (some a)), some (vR z), some (vR (some (hE h 40))), some (vI 0), some (vR (some rt)), some (vR (some x)), l10, l11, some (vR (some k)), l13, l14, l15] [] h Q := by
          intro l10 l11 l13 l14 l15
          have nz : iI (cmpV T (ndT h v x)) ≠ (0 : Int32) := by rw [ne_eq, i_0, iI_eq (by omega) (by omega) (by omega) (by omega)]; exact c0
          rw [sJ21_putTreeVal_104, sJ21_putTreeVal_106, sJ21_putTreeVal_108, sJ21_putTreeVal_110, cmp, Kt_v, sJ21_putTreeVal_113, sJ21_putTreeVal_114, sJ21_putTreeVal_116, if_pos nz]
          by_cases sg : cmpV T (ndT h v x) < 0
          · exact goL _ _ _ _ _ _ _ (by rw [i_0, iI_le (by omega) (by omega) (by omega) (by omega)]; omega) (Or.inr rfl) (kc2.1 sg)
          · exact goR _ _ _ _ _ _ _ (by rw [i_0, iI_lt (by omega) (by omega) (by omega) (by omega)]; omega) (Or.inr rfl) (kc2.2 (by omega))
        rw [if_pos p2, sJ21_putTreeVal_57, sJ21_putTreeVal_59 x13, f4, sJ21_putTreeVal_62, sJ21_putTreeVal_63, sJ21_putTreeVal_65, sJ21_putTreeVal_67, if_neg w, sJ21_putTreeVal_70, sJ21_putTreeVal_72, if_neg (by simp), sJ21_putTreeVal_75, sJ21_putTreeVal_77, sJ21_putTreeVal_79 s.1 s.2.1, eq, Kt_v, if_neg nq, sJ21_putTreeVal_82, if_pos rfl, sJ21_putTreeVal_88, sJ21_putTreeVal_90]
        rcases hkc with hkc | hkc
        · rw [hkc, if_neg (fun z => z rfl), sJ21_putTreeVal_93, sJ21_putTreeVal_95, cls, Kt_v, sJ21_putTreeVal_98, sJ21_putTreeVal_99, sJ21_putTreeVal_101, if_neg (by simp)]
          exact tail _ _ _ _ _
        · rw [hkc, if_pos (by simp)]
          exact tail _ _ _ _ _
      · rw [if_neg p2, sJ21_putTreeVal_51, sJ21_putTreeVal_52, sJ21_putTreeVal_54]
        exact goR _ _ _ _ _ _ _ (by decide) hkc (kN_lt (Int32.not_le.mp p2))
    · rw [if_neg p1, sJ21_putTreeVal_39, sJ21_putTreeVal_40, sJ21_putTreeVal_42]
      exact goL _ _ _ _ _ _ _ (by decide) hkc (kN_gt (Int32.not_le.mp p1))
end PTL
