/-! JDK: maps, 20: put *-/
section PUT
variable {g g0 : Nat → Nat} {h h0 : am_H} {v v0 : vT} {r m t n ix a b : Nat} {NS : List Nat} {Q : am_O → am_H → Prop} {T : List Int32} {z : Nat}
/-- another key: the two checks fail -/
theorem pv_ne1 {y : Nat} {l0 l3 l4 l5 l6 l8 l9 l10 l11 l12 : Option am_V} (s : RS h a b T) (d : ndF h v y) (ne : ndT h v y ≠ T) (P : Prop) (K : ∀ l11, Rn r 165 104 [l0, some (vI (sprd (hashS T))), some (vR (some a)), l3, l4, l5, l6, some (vR (some y)), l8, l9, l10, l11, l12] [] h Q ↔ P) :
    Rn r 165 63 [l0, some (vI (sprd (hashS T))), some (vR (some a)), l3, l4, l5, l6, some (vR (some y)), l8, l9, l10, l11, l12] [] h Q ↔ P := by
  obtain ⟨f1, f2, f3, k, kb, f4, f5, f6, f7⟩ := d
  have eq : ∀ Q, Cl r 125 [vR (some a), vR (some k)] h Q ↔ _ := fun Q => st_equals s f5
  rw [sJ7_putVal_63, sJ7_putVal_65 f1 f2, f3, sJ7_putVal_68, sJ7_putVal_69]
  by_cases p2 : sprd (hashS (ndT h v y)) ≠ sprd (hashS T)
  · rw [if_pos p2, K]
  · have w : ¬ some k = some a := by
      intro w
      have w' : k = a := Option.some.inj w
      subst w'
      have e := st_equals (r := 0) (Q := fun o _ => o = Sum.inl (some (vI 1))) s f5
      have e2 := st_equals (r := 0) (Q := fun o _ => o = Sum.inl (some (vI 1))) s s
      rw [e, if_neg (fun z => ne z.symm), if_pos rfl] at e2
      exact absurd (e2.mpr rfl) (by simp)
    rw [if_neg p2, sJ7_putVal_72, sJ7_putVal_74 f1 f2, f4, sJ7_putVal_77, sJ7_putVal_78, sJ7_putVal_80, sJ7_putVal_81, if_neg w, sJ7_putVal_84, sJ7_putVal_85, if_neg (by simp), sJ7_putVal_88, sJ7_putVal_89, sJ7_putVal_91 s.1 s.2.1, eq, Kt_v, if_neg (fun z => ne z.symm), sJ7_putVal_94, if_pos rfl, K]
theorem pv_ne2 {y : Nat} {l0 l3 l4 l5 l6 l7 l8 l9 l11 l12 : Option am_V} (s : RS h a b T) (d : ndF h v y) (ne : ndT h v y ≠ T) (P : Prop) (K : ∀ l11, Rn r 165 212 [l0, some (vI (sprd (hashS T))), some (vR (some a)), l3, l4, l5, l6, l7, l8, l9, some (vR (some y)), l11, l12] [] h Q ↔ P) :
    Rn r 165 175 [l0, some (vI (sprd (hashS T))), some (vR (some a)), l3, l4, l5, l6, l7, l8, l9, some (vR (some y)), l11, l12] [] h Q ↔ P := by
  obtain ⟨f1, f2, f3, k, kb, f4, f5, f6, f7⟩ := d
  have eq : ∀ Q, Cl r 125 [vR (some a), vR (some k)] h Q ↔ _ := fun Q => st_equals s f5
  rw [sJ7_putVal_175, sJ7_putVal_177 f1 f2, f3, sJ7_putVal_180, sJ7_putVal_181]
  by_cases p2 : sprd (hashS (ndT h v y)) ≠ sprd (hashS T)
  · rw [if_pos p2, K]
  · have w : ¬ some k = some a := by
      intro w
      have w' : k = a := Option.some.inj w
      subst w'
      have e := st_equals (r := 0) (Q := fun o _ => o = Sum.inl (some (vI 1))) s f5
      have e2 := st_equals (r := 0) (Q := fun o _ => o = Sum.inl (some (vI 1))) s s
      rw [e, if_neg (fun z => ne z.symm), if_pos rfl] at e2
      exact absurd (e2.mpr rfl) (by simp)
    rw [if_neg p2, sJ7_putVal_184, sJ7_putVal_186 f1 f2, f4, sJ7_putVal_189, sJ7_putVal_190, sJ7_putVal_192, sJ7_putVal_193, if_neg w, sJ7_putVal_196, sJ7_putVal_197, if_neg (by simp), sJ7_putVal_200, sJ7_putVal_201, sJ7_putVal_203 s.1 s.2.1, eq, Kt_v, if_neg (fun z => ne z.symm), sJ7_putVal_206, if_pos rfl, K]
/-- to the end of a list -/
theorem pv_walk {l0 l3 l4 l5 l6 l8 l9 : Option am_V} (s : RS h a b T) {W : Nat → Nat → Prop}
    (K2 : ∀ w c l11, W w c → Rn r 165 145 [l0, some (vI (sprd (hashS T))), some (vR (some a)), l3, l4, l5, l6, some (vR (some w)), l8, l9, some (vR none), l11, some (vI (iI (c : Nat)))] [] h Q) :
    ∀ (rs : List Nat) (y c : Nat) (l10 l11 : Option am_V), c + rs.length < 1000 → chn h (some y) (y :: rs) → (∀ x, x ∈ y :: rs → ndF h v x ∧ ndT h v x ≠ T) → (∀ w, w ∈ (y :: rs).getLast? → W w (c + rs.length)) →
      Rn r 165 134 [l0, some (vI (sprd (hashS T))), some (vR (some a)), l3, l4, l5, l6, some (vR (some y)), l8, l9, l10, l11, some (vI (iI (c : Nat)))] [] h Q := by
  intro rs
  induction rs with
  | nil =>
    intro y c l10 l11 hc ch nd hW
    obtain ⟨f1, f2, _⟩ := (nd y (List.mem_cons_self ..)).1
    have nx : hR h y 3 = none := ch.2
    rw [sJ7_putVal_134, sJ7_putVal_136 f1 f2, nx, sJ7_putVal_139, sJ7_putVal_140, sJ7_putVal_142, if_neg (fun w => w rfl)]
    exact K2 y c l11 (hW y (by simp))
  | cons y2 l ih =>
    intro y c l10 l11 hc ch nd hW
    obtain ⟨f1, f2, _⟩ := (nd y (List.mem_cons_self ..)).1
    have nx : hR h y 3 = some y2 := ch.2.1
    have n2 := nd y2 (List.mem_cons_of_mem _ (List.mem_cons_self ..))
    rw [List.length_cons] at hc
    rw [sJ7_putVal_134, sJ7_putVal_136 f1 f2, nx, sJ7_putVal_139, sJ7_putVal_140, sJ7_putVal_142, if_pos (by simp)]
    refine (pv_ne2 s n2.1 n2.2 True (fun l11' => ?_)).mpr trivial
    refine iff_true_intro ?_
    rw [sJ7_putVal_212, sJ7_putVal_214, sJ7_putVal_216, c_i1, sJ7_putVal_219]
    refine ih y2 (c + 1) _ _ (by omega) ⟨rfl, ch.2.2⟩ (fun x hx => nd x (List.mem_cons_of_mem _ hx)) (fun w hw => ?_)
    have := hW w (by rw [List.getLast?_cons_cons]; exact hw)
    rw [List.length_cons] at this
    rw [show c + 1 + l.length = c + (l.length + 1) by omega]
    exact this
theorem last_app {l : List Nat} {w : Nat} (h : w ∈ l.getLast?) : ∃ l', l = l' ++ [w] := by
  cases e : l with
  | nil => rw [e] at h; cases h
  | cons x r =>
    refine ⟨(x :: r).dropLast, ?_⟩
    rw [e] at h
    have : (x :: r).getLast (by simp) = w := by
      rw [List.getLast?_eq_some_getLast (by simp)] at h
      exact Option.some.inj h
    rw [← this, List.dropLast_concat_getLast]
/-- one behind the last -/
theorem chn_app {g : am_H} {N w : Nat} : ∀ {l : List Nat} {o : Option Nat}, chn h o (l ++ [w]) → (∀ x, x ∈ l → hR g x 3 = hR h x 3) → hR g w 3 = some N → hR g N 3 = none → chn g o (l ++ [w] ++ [N]) := by
  intro l
  induction l with
  | nil =>
    intro o c _ e1 e2
    exact ⟨c.1, e1, e2⟩
  | cons x l ih =>
    intro o c e e1 e2
    refine ⟨c.1, ?_⟩
    have := ih (o := hR h x 3) c.2 (fun y hy => e y (List.mem_cons_of_mem _ hy)) e1 e2
    rw [e x (List.mem_cons_self ..)]
    exact this
end PUT
