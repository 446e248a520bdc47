/-! JDK: maps, 10: a list of tree nodes becomes a tree *-/
section TYL
variable {B : Nat → Prop} {h : am_H} {v : vT} {r t a b rt x0 : Nat} {z : Option Nat} {lo hi : Nat → Int} {Q : am_O → am_H → Prop} {T : List Int32} {l0 l4 : Option am_V}
theorem ty_loop (tr : isTr h v B rt lo hi) (nd : ∀ x, B x → ndF h v x) (s : RS h a b T) (kT : okK T) (new : ∀ x, B x → ndT h v x ≠ T) (ku : hE h 33 = hE h 33) (k8 : T.length = 8 → hK h b = 44)
    (K : ∀ xp dv kc l10 l11, B xp → goes h v lo hi (keyN (sprd (hashS T)) T) xp dv → Rn r 263 171 [l0, some (vR (some t)), some (vR (some rt)), some (vR (some x0)), l4, some (vR (some a)), some (vI (sprd (hashS T))), some (vR kc), some (vR none), some (vI dv), l10, l11, some (vR (some xp))] [] h Q) :
    ∀ (d x : Nat), B x → (hi x - lo x).toNat ≤ d → lo x < keyN (sprd (hashS T)) T → keyN (sprd (hashS T)) T < hi x → ∀ kc l9 l10 l11 l12, (kc = none ∨ kc = some (hE h 40)) →
      Rn r 263 64 [l0, some (vR (some t)), some (vR (some rt)), some (vR (some x0)), l4, some (vR (some a)), some (vI (sprd (hashS T))), some (vR kc), some (vR (some x)), l9, l10, l11, l12] [] h Q := by
  have tt := tr.tr
  intro d
  induction d with
  | zero =>
    intro x hx hd
    have := (tr.2.2.2.1 x hx).2
    omega
  | succ d ih =>
    intro x hx hd h1 h2 kc l9 l10 l11 l12 hkc
    obtain ⟨f1, f2, f3, k, kb, f4, f5, f6, f7⟩ := nd x hx
    have x13 : hK h x = 13 := (tr.2.2.2.1 x hx).1
    have goL : ∀ dv kc l10 l11 l12, dv ≤ 0 → (kc = none ∨ kc = some (hE h 40)) → keyN (sprd (hashS T)) T < ndN h v x → Rn r 263 143 [l0, some (vR (some t)), some (vR (some rt)), some (vR (some x0)), l4, some (vR (some a)), some (vI (sprd (hashS T))), some (vR kc), some (vR (some x)), some (vI dv), l10, l11, l12] [] h Q := by
      intro dv kc l10 l11 l12 hdv hkc lt
      rw [sJ21_treeify_143, sJ21_treeify_145, sJ21_treeify_147, sJ21_treeify_149, if_neg (Int32.not_lt.mpr hdv), sJ21_treeify_152, sJ21_treeify_154 x13, sJ21_treeify_157, sJ21_treeify_165, sJ21_treeify_166, sJ21_treeify_168]
      cases hc : hR h x 5 with
      | none =>
        rw [if_neg (fun w => w rfl)]
        exact K x dv kc l10 l11 hx (Or.inl ⟨hdv, hc, h1, lt⟩)
      | some c =>
        have cl := tt.lf hx hc
        have c4 := (tr.2.2.2.1 c cl.1).2
        have x4 := (tr.2.2.2.1 x hx).2
        rw [if_pos (by simp), sJ21_treeify_206]
        exact ih c cl.1 (by omega) (by omega) (by omega) _ _ _ _ _ hkc
    have goR : ∀ dv kc l10 l11 l12, 0 < dv → (kc = none ∨ kc = some (hE h 40)) → ndN h v x < keyN (sprd (hashS T)) T → Rn r 263 143 [l0, some (vR (some t)), some (vR (some rt)), some (vR (some x0)), l4, some (vR (some a)), some (vI (sprd (hashS T))), some (vR kc), some (vR (some x)), some (vI dv), l10, l11, l12] [] h Q := by
      intro dv kc l10 l11 l12 hdv hkc lt
      rw [sJ21_treeify_143, sJ21_treeify_145, sJ21_treeify_147, sJ21_treeify_149, if_pos hdv, sJ21_treeify_160, sJ21_treeify_162 x13, sJ21_treeify_165, sJ21_treeify_166, sJ21_treeify_168]
      cases hc : hR h x 6 with
      | none =>
        rw [if_neg (fun w => w rfl)]
        exact K x dv kc l10 l11 hx (Or.inr ⟨hdv, hc, lt, h2⟩)
      | some c =>
        have cl := tt.rt hx hc
        have c4 := (tr.2.2.2.1 c cl.1).2
        have x4 := (tr.2.2.2.1 x hx).2
        rw [if_pos (by simp), sJ21_treeify_206]
        exact ih c cl.1 (by omega) (by omega) (by omega) _ _ _ _ _ hkc
    rw [sJ21_treeify_64, sJ21_treeify_66 x13, f4, sJ21_treeify_69, sJ21_treeify_71, sJ21_treeify_73 x13, sJ21_treeify_76, sJ21_treeify_77, sJ21_treeify_79, sJ21_treeify_81]
    by_cases p1 : hI h x 0 ≤ sprd (hashS T)
    · rw [if_pos p1, sJ21_treeify_90, sJ21_treeify_92, sJ21_treeify_94]
      by_cases p2 : sprd (hashS T) ≤ hI h x 0
      · have ph : hI h x 0 = sprd (hashS T) := Int32.le_antisymm p1 p2
        have nq : T ≠ ndT h v x := fun w => new x hx w.symm
        have cls : ∀ Q, Cl r 250 [vR (some a)] h Q ↔ _ := fun Q => cm_class s
        have cmp : ∀ Q, Cl r 251 [vR (some (hE h 40)), vR (some a), vR (some k)] h Q ↔ _ := fun Q => cm_cmp s f5 kT.1 f6.1 kT.b f6.b ku nq (fun z1 z2 => ⟨k8 z1, f7 z2⟩)
        have c0 := cmp_ne kT.b f6.b nq
        have cr := cmpV_rng (U := ndT h v x) kT.1 f6.1
        have kc2 := kN_cmp ph f6 kT nq
        have tail : ∀ l9 l10 l12 : Option am_V, Rn r 263 119 [l0, some (vR (some t)), some (vR (some rt)), some (vR (some x0)), l4, some (vR (some a)), some (vI (sprd (hashS T))), some (vR (some (hE h 40))), some (vR (some x)), l9, l10, some (vR (some k)), l12] [] h Q := by
          intro l9 l10 l12
          have nz : iI (cmpV T (ndT h v x)) ≠ (0 : Int32) := by rw [ne_eq, i_0, iI_eq (by omega) (by omega) (by omega) (by omega)]; exact c0
          rw [sJ21_treeify_119, sJ21_treeify_121, sJ21_treeify_123, sJ21_treeify_125, cmp, Kt_v, sJ21_treeify_128, sJ21_treeify_129, sJ21_treeify_131, if_pos nz]
          by_cases sg : cmpV T (ndT h v x) < 0
          · exact goL _ _ _ _ _ (by rw [i_0, iI_le (by omega) (by omega) (by omega) (by omega)]; omega) (Or.inr rfl) (kc2.1 sg)
          · exact goR _ _ _ _ _ (by rw [i_0, iI_lt (by omega) (by omega) (by omega) (by omega)]; omega) (Or.inr rfl) (kc2.2 (by omega))
        rw [if_pos p2, sJ21_treeify_103, sJ21_treeify_105]
        rcases hkc with hkc | hkc
        · rw [hkc, if_neg (fun z => z rfl), sJ21_treeify_108, sJ21_treeify_110, cls, Kt_v, sJ21_treeify_113, sJ21_treeify_114, sJ21_treeify_116, if_neg (by simp)]
          exact tail _ _ _
        · rw [hkc, if_pos (by simp)]
          exact tail _ _ _
      · rw [if_neg p2, sJ21_treeify_97, sJ21_treeify_98, sJ21_treeify_100]
        exact goR _ _ _ _ _ (by decide) hkc (kN_lt (Int32.not_le.mp p2))
    · rw [if_neg p1, sJ21_treeify_84, sJ21_treeify_85, sJ21_treeify_87]
      exact goL _ _ _ _ _ (by decide) hkc (kN_gt (Int32.not_le.mp p1))
end TYL
/-- what a key's number can be -/
theorem keyN_rng (x : Int32) (T : List Int32) : -(2 ^ 100) < keyN x T ∧ keyN x T < 2 ^ 100 := by
  unfold keyN
  have h1 := encT_lo 8 T
  have h2 := Int32.le_toInt x
  have h3 := Int32.toInt_lt x
  omega
section TYA
variable {h : am_H} {v : vT} {r t ix : Nat} {Q : am_O → am_H → Prop}
/-- nodes of a list that is to become a tree: all that is kept meanwhile -/
def tyN (h : am_H) (v : vT) (A : Nat → Prop) : Prop := (∀ x, A x → ndF h v x ∧ hK h x = 13) ∧ (∀ x y, A x → A y → ndT h v x = ndT h v y → x = y) ∧ hE h 33 = hE h 33 ∧ isNb h A
theorem RS_b {g h : am_H} {B : Nat → Prop} {t ix a b : Nat} {T : List Int32} (c : BCh B t ix h g) (s : RS h a b T) (na : ¬ B a) (nb : ¬ B b) (ta : a ≠ t) : RS g a b T := by
  obtain ⟨s1, s2, s3, s4, s5, s6, s7, s8⟩ := s
  have la : a < hN h := hK_lt (c := hK h a) rfl (by omega)
  have lb : b < hN h := hK_lt (c := hK h b) rfl (by omega)
  obtain ⟨x1, x2, x3, x4, x5⟩ := c.2.2 a la
  obtain ⟨y1, y2, y3, y4, y5⟩ := c.2.2 b lb
  exact ⟨by omega, by omega, by rw [x5 0 (fun w => ta w.1) (fun w => na w.1)]; exact s3, by rw [y1]; exact s4, by rw [y2]; exact s5, fun i hi => by rw [y4 i (fun w => nb w.1)]; exact s6 i hi, by rw [x4 1 (fun w => na w.1)]; exact s7, s8⟩
theorem ndF_b {g h : am_H} {v : vT} {B : Nat → Prop} {t ix x : Nat} (c : BCh B t ix h g) (d : ndF h v x) (k13 : ∀ y, B y → hK h y = 13 ∨ hK h y = 0) (tk : hK h t = 48) : ndF g v x ∧ ndT g v x = ndT h v x ∧ hI g x 0 = hI h x 0 ∧ hR g x 1 = hR h x 1 ∧ hR g x 2 = hR h x 2 := by
  obtain ⟨f1, f2, f3, k, kb, f4, f5, f6, f7⟩ := d
  have lx : x < hN h := hK_lt (c := hK h x) rfl (by omega)
  obtain ⟨x1, x2, x3, x4, x5⟩ := c.2.2 x lx
  have xt : x ≠ t := by rintro rfl; omega
  have e0 := x4 0 (fun w => absurd w.2 (by decide))
  have e1 := x5 1 (fun w => xt w.1) (fun w => absurd w.2.1 (by decide))
  have e2 := x5 2 (fun w => xt w.1) (fun w => absurd w.2.1 (by decide))
  have et : ndT g v x = ndT h v x := by unfold ndT; rw [e1]
  have nk : ¬ B k := fun w => by
    have := k13 k w
    have := f5.1
    have := f5.2.1
    omega
  have nkb : ¬ B kb := fun w => by
    have := k13 kb w
    have := f5.2.2.2.1
    omega
  have lb : kb < hN h := by
    have := f5.2.2.2.1
    exact hK_lt (c := hK h kb) rfl (by omega)
  refine ⟨⟨by omega, by omega, by rw [e0, et]; exact f3, k, kb, by rw [e1]; exact f4, by rw [et]; exact RS_b c f5 nk nkb (fun w => by rw [w] at f5; have := f5.1; have := f5.2.1; omega), by rw [et]; exact f6, fun w => by rw [(c.2.2 kb lb).1]; exact f7 (by rw [← et]; exact w)⟩, et, e0, e1, e2⟩
end TYA
