/-! JDK: maps, 2: looking into a tree *-/
section TRF
variable {r a b e n k i m x y : Nat} {h h' : am_H} {v : vT} {Q : am_O → am_H → Prop} {T U V S : List Int32} {B : Nat → Prop} {lo hi : Nat → Int}
theorem isTr.tr {r : Nat} (t : isTr h v B r lo hi) : tR B r (ndN h v) (fun x => hR h x 4) (fun x => hR h x 5) (fun x => hR h x 6) lo hi := by
  obtain ⟨t1, t2, t3, t4, t5, t6, t7⟩ := t
  exact ⟨t1, t2, t3, fun x hx => (t4 x hx).2, t5, t6, t7⟩
theorem isTr_of {r : Nat} (t : tR B r (ndN h v) (fun x => hR h x 4) (fun x => hR h x 5) (fun x => hR h x 6) lo hi) (k : ∀ x, B x → hK h x = 13) : isTr h v B r lo hi := by
  obtain ⟨t1, t2, t3, t4, t5, t6, t7⟩ := t
  exact ⟨t1, t2, t3, fun x hx => ⟨k x hx, t4 x hx⟩, t5, t6, t7⟩
/-- the class of a text -/
theorem cm_class (s : RS h a b T) : Cl r 250 [vR (some a)] h Q ↔ Q (Sum.inl (some (vR (some (hE h 40))))) h := by
  have km : hK h a ∈ [10, 11] := by
    have := s.1
    have := s.2.1
    have : hK h a = 10 ∨ hK h a = 11 := by omega
    rcases this with z | z <;> rw [z] <;> decide
  have one : ¬ ((1 : Int32) = 0) := by decide
  rw [eJ7_comparableClassFor, sJ7_comparableClassFor_0, sJ7_comparableClassFor_1 km, sJ7_comparableClassFor_4, if_neg one, sJ7_comparableClassFor_7, sJ7_comparableClassFor_8 (by have := s.1; have := s.2.1; omega), sJ7_comparableClassFor_11, sJ7_comparableClassFor_12, sJ7_comparableClassFor_13, sJ7_comparableClassFor_15, if_neg (fun z => z rfl), sJ7_comparableClassFor_18, sJ7_comparableClassFor_19]
theorem cm_cmp (s : RS h a b T) (t : RS h e k U) (t8 : T.length ≤ 8) (u8 : U.length ≤ 8) (okT : okB T) (okU : okB U) (ku : hE h 33 = hE h 33) (ne : T ≠ U) (k8 : T.length = 8 → U.length = 8 → hK h b = 44 ∧ hK h k = 44) :
    Cl r 251 [vR (some (hE h 40)), vR (some a), vR (some e)] h Q ↔ Q (Sum.inl (some (vI (iI (cmpV T U))))) h := by
  have km : hK h a ∈ [10, 11] := by
    have := s.1
    have := s.2.1
    have : hK h a = 10 ∨ hK h a = 11 := by omega
    rcases this with z | z <;> rw [z] <;> decide
  have cm : ∀ Q, Cl r 290 [vR (some a), vR (some e)] h Q ↔ _ := fun Q => st_cmp s t t8 u8 okT okU ku ne k8
  rw [eJ7_compareComparables, sJ7_compareComparables_0, sJ7_compareComparables_1, if_neg (by simp), sJ7_compareComparables_4, sJ7_compareComparables_5 (by have := t.1; have := t.2.1; omega), sJ7_compareComparables_8, sJ7_compareComparables_9, if_pos rfl, sJ7_compareComparables_16, sJ7_compareComparables_17 km, sJ7_compareComparables_20, sJ7_compareComparables_21 s.1 s.2.1, cm, Kt_v, sJ7_compareComparables_26]
theorem cmpV_rng (t8 : T.length ≤ 8) (u8 : U.length ≤ 8) : -300 < cmpV T U ∧ cmpV T U < 300 := by
  unfold cmpV
  have := btN_lt (T.getD (misI T U (min T.length U.length) 0).toNat 0)
  have := btN_lt (U.getD (misI T U (min T.length U.length) 0).toNat 0)
  split <;> omega
theorem ndN_lt {x y : Nat} (e : hI h x 0 < hI h y 0) : ndN h v x < ndN h v y := by
  unfold ndN keyN
  have h1 := encT_lo 8 (ndT h v x)
  have h2 := encT_lo 8 (ndT h v y)
  have h3 := Int32.lt_iff_toInt_lt.mp e
  omega
theorem ndN_eq {x y : Nat} (e : hI h x 0 = hI h y 0) : ndN h v x < ndN h v y ↔ encT 8 (ndT h v x) < encT 8 (ndT h v y) := by
  unfold ndN keyN
  rw [e]
  omega
/-- the search for a text from a node on -/
theorem tf_loop {rt : Nat} {res : Option Nat} (tr : isTr h v B rt lo hi) (nd : ∀ x, B x → ndF h v x) (s : RS h a b T) (t8 : T.length ≤ 8) (okT : okB T) (ku : hE h 33 = hE h 33) (k8 : T.length = 8 → hK h b = 44) :
    ∀ (d x : Nat), B x → (hi x - lo x).toNat ≤ d → ((∃ y, res = some y ∧ B y ∧ ndT h v y = T ∧ lo x < ndN h v y ∧ ndN h v y < hi x) ∨ (res = none ∧ ∀ y, B y → ndT h v y ≠ T)) → ∀ l0 kc l5 l6 l7 l8 l9 l10, (kc = none ∨ kc = some (hE h 40)) →
    (Rn r 193 3 [l0, some (vI (sprd (hashS T))), some (vR (some a)), some (vR kc), some (vR (some x)), l5, l6, l7, l8, l9, l10] [] h Q ↔ Q (Sum.inl (some (vR res))) h) := by
  intro d
  induction d with
  | zero =>
    intro x hx hd
    have := (tr.2.2.2.1 x hx).2
    omega
  | succ d ih =>
    intro x hx hd D l0 kc l5 l6 l7 l8 l9 l10 hkc
    obtain ⟨f1, f2, f3, k, kb, f4, f5, f6, f7⟩ := nd x hx
    have x4 := tr.2.2.2.1 x hx
    have x13 : hK h x = 13 := x4.1
    have tt := tr.tr
    -- where the search may go
    have goL : ∀ l0 kc l5 l6 l7 l8 l9 l10, (kc = none ∨ kc = some (hE h 40)) → (∀ y, res = some y → B y → ndT h v y = T → lo x < ndN h v y → ndN h v y < hi x → ndN h v y < ndN h v x ∧ ∃ c, hR h x 5 = some c) →
        (Rn r 193 165 [l0, some (vI (sprd (hashS T))), some (vR (some a)), some (vR kc), some (vR (hR h x 5)), l5, l6, l7, l8, l9, l10] [] h Q ↔ Q (Sum.inl (some (vR res))) h) := by
      intro l0 kc l5 l6 l7 l8 l9 l10 hkc way
      cases hc : hR h x 5 with
      | none =>
        have rn : res = none := by
          rcases D with ⟨y, y1, y2, y3, y4, y5⟩ | D
          · obtain ⟨c, hc'⟩ := (way y y1 y2 y3 y4 y5).2
            rw [hc] at hc'
            cases hc'
          · exact D.1
        rw [sJ21_find_165, sJ21_find_167, if_neg (fun z => z rfl), sJ21_find_170, sJ21_find_171, rn]
      | some c =>
        have cl := tt.lf hx hc
        have c4 := (tr.2.2.2.1 c cl.1).2
        rw [sJ21_find_165, sJ21_find_167, if_pos (by simp)]
        refine ih c cl.1 (by clear D way; omega) ?_ _ _ _ _ _ _ _ _ hkc
        rcases D with ⟨y, y1, y2, y3, y4, y5⟩ | D
        · have w := (way y y1 y2 y3 y4 y5).1
          exact Or.inl ⟨y, y1, y2, y3, by omega, by omega⟩
        · exact Or.inr D
    have goR : ∀ l0 kc l5 l6 l7 l8 l9 l10, (kc = none ∨ kc = some (hE h 40)) → (∀ y, res = some y → B y → ndT h v y = T → lo x < ndN h v y → ndN h v y < hi x → ndN h v x < ndN h v y ∧ ∃ c, hR h x 6 = some c) →
        (Rn r 193 165 [l0, some (vI (sprd (hashS T))), some (vR (some a)), some (vR kc), some (vR (hR h x 6)), l5, l6, l7, l8, l9, l10] [] h Q ↔ Q (Sum.inl (some (vR res))) h) := by
      intro l0 kc l5 l6 l7 l8 l9 l10 hkc way
      cases hc : hR h x 6 with
      | none =>
        have rn : res = none := by
          rcases D with ⟨y, y1, y2, y3, y4, y5⟩ | D
          · obtain ⟨c, hc'⟩ := (way y y1 y2 y3 y4 y5).2
            rw [hc] at hc'
            cases hc'
          · exact D.1
        rw [sJ21_find_165, sJ21_find_167, if_neg (fun z => z rfl), sJ21_find_170, sJ21_find_171, rn]
      | some c =>
        have cl := tt.rt hx hc
        have c4 := (tr.2.2.2.1 c cl.1).2
        rw [sJ21_find_165, sJ21_find_167, if_pos (by simp)]
        refine ih c cl.1 (by clear D way; omega) ?_ _ _ _ _ _ _ _ _ hkc
        rcases D with ⟨y, y1, y2, y3, y4, y5⟩ | D
        · have w := (way y y1 y2 y3 y4 y5).1
          exact Or.inl ⟨y, y1, y2, y3, by omega, by omega⟩
        · exact Or.inr D
    have path : ∀ y, B y → lo x < ndN h v y → ndN h v y < hi x → y = x ∨ (ndN h v y < ndN h v x ∧ ∃ c, hR h x 5 = some c) ∨ (ndN h v x < ndN h v y ∧ ∃ c, hR h x 6 = some c) := fun y hy h1 h2 => tt.path hx hy h1 h2
    have hash : ∀ y, B y → ndT h v y = T → hI h y 0 = sprd (hashS T) := fun y hy e => by
      have := (nd y hy).2.2.1
      rw [e] at this
      exact this
    rw [sJ21_find_3, sJ21_find_5 x13, sJ21_find_8, sJ21_find_10, sJ21_find_12 x13, sJ21_find_15, sJ21_find_17, sJ21_find_19 x13, sJ21_find_22, sJ21_find_23, sJ21_find_25, sJ21_find_26]
    by_cases p1 : hI h x 0 ≤ sprd (hashS T)
    · rw [if_pos p1, sJ21_find_36, sJ21_find_38, sJ21_find_39]
      by_cases p2 : sprd (hashS T) ≤ hI h x 0
      · have ph : hI h x 0 = sprd (hashS T) := Int32.le_antisymm p1 p2
        rw [if_pos p2, sJ21_find_49, sJ21_find_51 x13, f4, sJ21_find_54, sJ21_find_55, sJ21_find_57, sJ21_find_58]
        by_cases q : ndT h v x = T
        · have rx : res = some x := by
            rcases D with ⟨y, y1, y2, y3, y4, y5⟩ | D
            · rcases path y y2 y4 y5 with z | z | z
              · rw [y1, z]
              · exfalso
                have := z.1
                have := ndN_eq (h := h) (v := v) (x := y) (y := x) (by rw [hash y y2 y3, ph])
                rw [y3, q] at this
                omega
              · exfalso
                have := z.1
                have := ndN_eq (h := h) (v := v) (x := x) (y := y) (by rw [hash y y2 y3, ph])
                rw [y3, q] at this
                omega
            · exact absurd q (D.2 x hx)
          have eq : ∀ Q, Cl r 125 [vR (some a), vR (some k)] h Q ↔ _ := fun Q => st_equals s f5
          by_cases w : some k = some a
          · rw [if_pos w, sJ21_find_74, sJ21_find_76, rx]
          · rw [if_neg w, sJ21_find_61, sJ21_find_62, if_neg (by simp), sJ21_find_65, sJ21_find_66, sJ21_find_68 s.1 s.2.1, eq, Kt_v, if_pos q.symm, sJ21_find_71, if_neg (by decide), sJ21_find_74, sJ21_find_76, rx]
        · have nq : T ≠ ndT h v x := fun z => q z.symm
          have w : ¬ some k = some a := by
            intro w
            have w' : k = a := Option.some.inj w
            subst w'
            have e := st_equals (r := 0) (Q := fun o _ => o = Sum.inl (some (vI 1))) s f5
            have e2 := st_equals (r := 0) (Q := fun o _ => o = Sum.inl (some (vI 1))) s s
            rw [e, if_neg nq, if_pos rfl] at e2
            exact absurd (e2.mpr rfl) (by simp)
          have eq : ∀ Q, Cl r 125 [vR (some a), vR (some k)] h Q ↔ _ := fun Q => st_equals s f5
          rw [if_neg w, sJ21_find_61, sJ21_find_62, if_neg (by simp), sJ21_find_65, sJ21_find_66, sJ21_find_68 s.1 s.2.1, eq, Kt_v, if_neg nq, sJ21_find_71, if_pos rfl, sJ21_find_77, sJ21_find_79]
          by_cases pl : hR h x 5 = none
          · rw [pl, if_neg (fun z => z rfl), sJ21_find_82, sJ21_find_84, sJ21_find_86]
            refine goR _ _ _ _ _ _ _ _ hkc (fun y y1 y2 y3 y4 y5 => ?_)
            rcases path y y2 y4 y5 with z | z | z
            · rw [z] at y3; exact absurd y3 q
            · obtain ⟨c, hc⟩ := z.2
              rw [pl] at hc
              cases hc
            · exact z
          · rw [if_pos pl, sJ21_find_89, sJ21_find_91]
            by_cases pr : hR h x 6 = none
            · rw [pr, if_neg (fun z => z rfl), sJ21_find_94, sJ21_find_96, sJ21_find_98]
              refine goL _ _ _ _ _ _ _ _ hkc (fun y y1 y2 y3 y4 y5 => ?_)
              rcases path y y2 y4 y5 with z | z | z
              · rw [z] at y3; exact absurd y3 q
              · exact z
              · obtain ⟨c, hc⟩ := z.2
                rw [pr] at hc
                cases hc
            · have cls : ∀ Q, Cl r 250 [vR (some a)] h Q ↔ _ := fun Q => cm_class s
              have cmp : ∀ Q, Cl r 251 [vR (some (hE h 40)), vR (some a), vR (some k)] h Q ↔ _ := fun Q => cm_cmp s f5 t8 f6.1 okT f6.b ku nq (fun z1 z2 => ⟨k8 z1, f7 z2⟩)
              have c0 := cmp_ne okT f6.b nq
              have cr := cmpV_rng (U := ndT h v x) t8 f6.1
              rw [if_pos pr]
              have tail : ∀ l5 l6 l7 l8 l9 l10 : Option am_V, Rn r 193 114 [l0, some (vI (sprd (hashS T))), some (vR (some a)), some (vR (some (hE h 40))), some (vR (some x)), l5, l6, some (vR (some k)), some (vR (hR h x 5)), some (vR (hR h x 6)), l10] [] h Q ↔ Q (Sum.inl (some (vR res))) h := by
                intro l5 l6 l7 l8 l9 l10
                have nz : ¬ iI (cmpV T (ndT h v x)) = (0 : Int32) := by rw [i_0, iI_eq (by omega) (by omega) (by omega) (by omega)]; exact c0
                rw [sJ21_find_114, sJ21_find_115, sJ21_find_116, sJ21_find_118, cmp, Kt_v, sJ21_find_121, sJ21_find_122, sJ21_find_124, if_neg nz, sJ21_find_127, sJ21_find_129]
                by_cases sg : 0 ≤ cmpV T (ndT h v x)
                · rw [if_pos (by rw [i_0, iI_le (by omega) (by omega) (by omega) (by omega)]; exact sg), sJ21_find_137, sJ21_find_139, sJ21_find_141]
                  refine goR _ _ _ _ _ _ _ _ (Or.inr rfl) (fun y y1 y2 y3 y4 y5 => ?_)
                  have ky := (nd y y2)
                  obtain ⟨_, _, _, _, _, _, _, g6, _⟩ := ky
                  rw [y3] at g6
                  have lt := cmp_lt g6 f6
                  rcases path y y2 y4 y5 with z | z | z
                  · rw [z] at y3; exact absurd y3 q
                  · exfalso
                    have e := ndN_eq (h := h) (v := v) (x := y) (y := x) (by rw [hash y y2 y3, ph])
                    rw [y3] at e
                    have := e.mp z.1
                    have := lt.mpr this
                    omega
                  · exact z
                · rw [if_neg (by rw [i_0, iI_le (by omega) (by omega) (by omega) (by omega)]; exact sg), sJ21_find_132, sJ21_find_134, sJ21_find_139, sJ21_find_141]
                  refine goL _ _ _ _ _ _ _ _ (Or.inr rfl) (fun y y1 y2 y3 y4 y5 => ?_)
                  have ky := (nd y y2)
                  obtain ⟨_, _, _, _, _, _, _, g6, _⟩ := ky
                  rw [y3] at g6
                  have lt := cmp_lt g6 f6
                  rcases path y y2 y4 y5 with z | z | z
                  · rw [z] at y3; exact absurd y3 q
                  · exact z
                  · exfalso
                    have e := ndN_eq (h := h) (v := v) (x := y) (y := x) (by rw [hash y y2 y3, ph])
                    rw [y3] at e
                    have := lt.mp (by omega)
                    have := e.mpr this
                    omega
              rw [sJ21_find_101, sJ21_find_102]
              rcases hkc with hkc | hkc
              · rw [hkc, if_neg (fun z => z rfl), sJ21_find_105, sJ21_find_106, cls, Kt_v, sJ21_find_109, sJ21_find_110, sJ21_find_111, if_neg (by simp)]
                exact tail _ _ none none none _
              · rw [hkc, if_pos (by simp)]
                exact tail _ _ none none none _
      · rw [if_neg p2, sJ21_find_42, sJ21_find_44, sJ21_find_46]
        refine goR _ _ _ _ _ _ _ _ hkc (fun y y1 y2 y3 y4 y5 => ?_)
        have lt : hI h x 0 < hI h y 0 := by
          rw [hash y y2 y3]
          exact Int32.not_le.mp p2
        have := ndN_lt (v := v) lt
        rcases path y y2 y4 y5 with z | z | z
        · rw [z] at this; omega
        · omega
        · exact z
    · rw [if_neg p1, sJ21_find_29, sJ21_find_31, sJ21_find_33]
      refine goL _ _ _ _ _ _ _ _ hkc (fun y y1 y2 y3 y4 y5 => ?_)
      have lt : hI h y 0 < hI h x 0 := by
        rw [hash y y2 y3]
        exact Int32.not_le.mp p1
      have := ndN_lt (v := v) lt
      rcases path y y2 y4 y5 with z | z | z
      · rw [z] at this; omega
      · exact z
      · omega
/-- the search in a tree, from its root -/
theorem tf_get {rt : Nat} {res : Option Nat} (tr : isTr h v B rt lo hi) (nd : ∀ x, B x → ndF h v x) (s : RS h a b T) (t8 : T.length ≤ 8) (okT : okB T) (ku : hE h 33 = hE h 33) (k8 : T.length = 8 → hK h b = 44)
    (D : (∃ y, res = some y ∧ B y ∧ ndT h v y = T) ∨ (res = none ∧ ∀ y, B y → ndT h v y ≠ T)) : Cl (r + 1) 158 [vR (some rt), vI (sprd (hashS T)), vR (some a)] h Q ↔ Q (Sum.inl (some (vR res))) h := by
  have k13 := (tr.2.2.2.1 rt tr.1).1
  have D' : (∃ y, res = some y ∧ B y ∧ ndT h v y = T ∧ lo rt < ndN h v y ∧ ndN h v y < hi rt) ∨ (res = none ∧ ∀ y, B y → ndT h v y ≠ T) := by
    rcases D with ⟨y, y1, y2, y3⟩ | D
    · have := tr.2.2.1 y y2
      exact Or.inl ⟨y, y1, y2, y3, this.1, this.2⟩
    · exact Or.inr D
  rw [eJ21_getTreeNode, sJ21_getTreeNode_0, sJ21_getTreeNode_1 k13, tr.2.1, sJ21_getTreeNode_4, if_pos rfl, sJ21_getTreeNode_14, sJ21_getTreeNode_15, sJ21_getTreeNode_16, sJ21_getTreeNode_17, sJ21_getTreeNode_18 k13, eJ21_find, sJ21_find_0, sJ21_find_1, tf_loop tr nd s t8 okT ku k8 _ rt tr.1 (Nat.le_refl _) D' _ _ _ _ _ _ _ _ (Or.inl rfl), Kt_v, sJ21_getTreeNode_21]
end TRF
