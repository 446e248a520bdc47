/-! JDK: maps, 3: get, containsKey *-/
section HMG
variable {r a b e n k i m x y : Nat} {h h' : am_H} {v : vT} {Q : am_O → am_H → Prop} {T U V S : List Int32}
/-- what a look-up answers -/
def mpAns (h : am_H) (v : vT) (m : Nat) (T : List Int32) (o : Option Nat) : Prop :=
  (o = none ∧ vMp v m T = none) ∨ ∃ x z, o = some x ∧ 12 ≤ hK h x ∧ hK h x ≤ 13 ∧ hR h x 2 = some z ∧ vMp v m T = some z
theorem ndFind_some {T : List Int32} : ∀ {xs : List Nat} {x : Nat}, ndFind h v T xs = some x → x ∈ xs ∧ ndT h v x = T := by
  intro xs
  induction xs with
  | nil => intro x q; cases q
  | cons y l ih =>
    intro x q
    rw [ndFind] at q
    by_cases p : ndT h v y = T
    · rw [if_pos p] at q
      cases q
      exact ⟨List.mem_cons_self .., p⟩
    · rw [if_neg p] at q
      exact ⟨List.mem_cons_of_mem _ (ih q).1, (ih q).2⟩
theorem ndFind_none {T : List Int32} : ∀ {xs : List Nat}, ndFind h v T xs = none → ∀ x, x ∈ xs → ndT h v x ≠ T := by
  intro xs
  induction xs with
  | nil => intro q x hx; cases hx
  | cons y l ih =>
    intro q x hx
    rw [ndFind] at q
    by_cases p : ndT h v y = T
    · rw [if_pos p] at q; cases q
    · rw [if_neg p] at q
      rcases List.mem_cons.mp hx with z | z
      · rw [z]; exact p
      · exact ih q x z
/-- the map's inside -/
theorem CR.mp (c : CR h v) (hm : hK v.1 m = 6) : ∃ g, CRg g h v ∧ isMp g h v m ∧ hK h m = 6 ∧ g m = m ∧ m < hN h ∧ hE h 33 = hE h 33 := by
  have lm := c.lt (a := m) (by rw [hm]; decide)
  have km := c.kk hm (by decide)
  obtain ⟨g, d⟩ := c
  exact ⟨g, d, (d.2.2.2.2 m lm).2.2.2.1 hm, km, ((d.2.2.2.2 m lm).1 (by rw [hm]; decide)).1, lm, d.2.2.2.1.2.2⟩
theorem v_hashK (c : CR h v) (ha : hK v.1 a = 10 ∨ hK v.1 a = 11) (q : ∀ h', CR h' v → (h' = h ∨ ∃ j y, h' = putI h a j y) → Q (Sum.inl (some (vI (sprd (hashS (vTx v a)))))) h') : Cl r 157 [vR (some a)] h Q := by
  obtain ⟨b, S, _⟩ := c.rs ha
  rw [eJ7_hash, sJ7_hash_0, sJ7_hash_1, if_pos (by simp), sJ7_hash_8, sJ7_hash_9 S.1 S.2.1]
  refine v_hash c ha (fun h' c' f => ?_)
  rw [Kt_v, sJ7_hash_12, sJ7_hash_13, sJ7_hash_14, sJ7_hash_15, sJ7_hash_17, sJ7_hash_18, sJ7_hash_19]
  exact q h' c' f
theorem v_getNode (c : CR h v) (hm : hK v.1 m = 6) (ha : hK v.1 a = 10 ∨ (hK v.1 a = 11 ∧ (vTx v a).length < 8)) (t8 : (vTx v a).length ≤ 8)
    (q : ∀ h' o, CR h' v → mpAns h' v m (vTx v a) o → Q (Sum.inl (some (vR o))) h') : Cl (r + 1) 105 [vR (some m), vR (some a)] h Q := by
  obtain ⟨g, d, ⟨NS, t1, t2, t3, t4, t5, t6, t7⟩, km, gm, lm, ku⟩ := c.mp hm
  have ha' : hK v.1 a = 10 ∨ hK v.1 a = 11 := by omega
  rw [eJ7_getNode, sJ7_getNode_0, sJ7_getNode_1 km]
  rcases t7 with ⟨u1, u2, u3⟩ | ⟨t, n, u1, u2, u3, u4, u5⟩
  · rw [u1, sJ7_getNode_4, sJ7_getNode_5, sJ7_getNode_6, if_pos rfl, sJ7_getNode_148, sJ7_getNode_149]
    refine q h none c (Or.inl ⟨rfl, ?_⟩)
    cases e : vMp v m (vTx v a) with
    | none => rfl
    | some z =>
      obtain ⟨x, x1, _⟩ := t6 _ _ e
      rw [u2] at x1
      cases x1
  · obtain ⟨w1, w2, w3, w4, _⟩ := u5
    have hLt := w4
    have n64 : 16 ≤ n ∧ n ≤ 64 := by rcases u2 with z | z | z <;> omega
    have c1 : ¬ iI n ≤ (0 : Int32) := by rw [i_0, iI_le (by omega) (by omega) (by omega) (by omega)]; omega
    have c2 : iI n - (1 : Int32) = iI (n - 1) := by rw [i_1, iI_sub]
    rw [u1, sJ7_getNode_4, sJ7_getNode_5, sJ7_getNode_6, if_neg (by simp), sJ7_getNode_9, sJ7_getNode_10 (by omega) (by omega), w4, iI_nI, sJ7_getNode_11, sJ7_getNode_12, sJ7_getNode_14, if_neg c1, sJ7_getNode_17, sJ7_getNode_18, sJ7_getNode_20, sJ7_getNode_21, c2, sJ7_getNode_22, sJ7_getNode_23]
    refine v_hashK c ha' (fun h' c' f => ?_)
    clear t1 t2 t3 t4 t5 t6 w1 w2 w3 w4 u3 u4
    have fR : ∀ b k, hR h' b k = hR h b k := by
      rcases f with rfl | ⟨j, y, rfl⟩
      · exact fun _ _ => rfl
      · exact fun _ _ => rfl
    obtain ⟨g', d', ⟨NS', t1, t2, t3, t4, t5, t6, t7⟩, km', gm', lm', ku'⟩ := c'.mp hm
    rw [fR, u1] at t7
    rcases t7 with ⟨z, _⟩ | ⟨t', n', z1, z2, z3, z4, z5⟩
    · cases z
    · cases z1
      have nn : n' = n := by
        have e1 := z5.2.2.2.1
        have e2 : hL h' t = hL h t := by
          rcases f with rfl | ⟨j, y, rfl⟩ <;> rfl
        exact e1.symm.trans (e2.trans hLt)
      subst nn
      obtain ⟨w1, w2, w3, w4, w5⟩ := z5
      have bi := bIx_lt n' u2 (sprd (hashS (vTx v a)))
      have nd : ∀ x, x ∈ NS' → ndF h' v x := fun x hx => c'.nd (t4 x hx)
      obtain ⟨b, S, bn, b44⟩ := c'.rs ha'
      obtain ⟨_, _, _, _, _, _, _, okT, _⟩ := c'.tx ha'
      have ans : ∀ o : Option Nat, (∀ x, o = some x → x ∈ NS' ∧ ndT h' v x = vTx v a) → (o = none → ∀ x, x ∈ NS' → ndT h' v x ≠ vTx v a) → mpAns h' v m (vTx v a) o := by
        intro o h1 h2
        cases o with
        | none =>
          refine Or.inl ⟨rfl, ?_⟩
          cases e : vMp v m (vTx v a) with
          | none => rfl
          | some z =>
            obtain ⟨x, x1, x2⟩ := t6 _ _ e
            exact absurd x2 (h2 rfl x x1)
        | some x =>
          obtain ⟨x1, x2⟩ := h1 x rfl
          obtain ⟨n1, n2, n3, k, z, n4, n5, n6, n7, n8, n9, n10⟩ := t4 x x1
          have : ndT h' v x = vTx v k := by unfold ndT; rw [n4]
          exact Or.inr ⟨x, z, rfl, by omega, by omega, n9, by rw [← x2, this]; exact n10⟩
      have hash : ∀ x, x ∈ NS' → ndT h' v x = vTx v a → bIx n' (hI h' x 0) = bIx n' (sprd (hashS (vTx v a))) := fun x hx e => by
        rw [(nd x hx).2.2.1, e]
      rw [Kt_v, sJ7_getNode_26, sJ7_getNode_27, sJ7_getNode_29, bi.2, sJ7_getNode_30 (by omega) (by omega) (by rw [w4]; exact bd_i bi.1 (by omega)), nn_i (by omega), sJ7_getNode_31, sJ7_getNode_32, sJ7_getNode_33]
      rcases w5 _ bi.1 with ⟨xs, ch, xd, x12, xm⟩ | ⟨n64', rt, lo, hi, o1, tr, nb, nx, _⟩
      · cases xs with
        | nil =>
          have e0 : hR h' t (bIx n' (sprd (hashS (vTx v a)))) = none := ch
          rw [e0, if_pos rfl, sJ7_getNode_148, sJ7_getNode_149]
          refine q h' none c' (ans none (fun _ z => by cases z) (fun _ x hx e => ?_))
          have := (xm x).mpr ⟨hx, hash x hx e⟩
          cases this
        | cons x l =>
          have e0 : hR h' t (bIx n' (sprd (hashS (vTx v a)))) = some x := ch.1
          have ndx : ∀ y, y ∈ x :: l → ndF h' v y := fun y hy => nd y ((xm y).mp hy).1
          obtain ⟨f1, f2, f3, kx, kb, f4, f5, f6, f7⟩ := ndx x (List.mem_cons_self ..)
          have k12 := x12 x (List.mem_cons_self ..)
          have eq : ∀ Q, Cl (r + 1) 125 [vR (some a), vR (some kx)] h' Q ↔ _ := fun Q => st_equals S f5
          have fin : ∀ o, o = ndFind h' v (vTx v a) (x :: l) → Q (Sum.inl (some (vR o))) h' := fun o eo => by
            refine q h' o c' (ans o (fun y ey => ?_) (fun en y hy e => ?_))
            · rw [eo] at ey
              have z := ndFind_some ey
              exact ⟨((xm y).mp z.1).1, z.2⟩
            · rw [eo] at en
              exact ndFind_none en y ((xm y).mpr ⟨hy, hash y hy e⟩) e
          have next : ndT h' v x ≠ vTx v a → ∀ l7, Rn (r + 1) 105 71 [some (vR (some m)), some (vR (some a)), some (vR (some t)), some (vR (some x)), none, some (vI (iI n')), some (vI (sprd (hashS (vTx v a)))), l7] [] h' Q := fun nx l7 => by
            rw [sJ7_getNode_71, sJ7_getNode_72 f1 f2]
            cases l with
            | nil =>
              have e3 : hR h' x 3 = none := ch.2
              rw [e3, sJ7_getNode_75, sJ7_getNode_76, sJ7_getNode_78, if_pos rfl, sJ7_getNode_148, sJ7_getNode_149]
              refine fin none ?_
              rw [ndFind, if_neg nx, ndFind]
            | cons x2 l2 =>
              have e3 : hR h' x 3 = some x2 := ch.2.1
              rw [e3, sJ7_getNode_75, sJ7_getNode_76, sJ7_getNode_78, if_neg (by simp), sJ7_getNode_81, sJ7_getNode_82_f (by rw [k12]; decide) (by rw [k12]; decide), sJ7_getNode_85, if_pos rfl]
              rw [gn_list S l2 x2 ⟨rfl, ch.2.2⟩ (fun y hy => ndx y (List.mem_cons_of_mem _ hy))]
              refine fin _ ?_
              conv => rhs; rw [ndFind, if_neg nx]
          rw [e0, if_neg (by simp), sJ7_getNode_36, sJ7_getNode_37 f1 f2, f3, sJ7_getNode_40, sJ7_getNode_42]
          by_cases p : ndT h' v x = vTx v a
          · have fx : ndFind h' v (vTx v a) (x :: l) = some x := by rw [ndFind, if_pos p]
            rw [p, if_neg (fun z => z rfl), sJ7_getNode_45, sJ7_getNode_46 f1 f2, f4, sJ7_getNode_49, sJ7_getNode_50, sJ7_getNode_52, sJ7_getNode_53]
            by_cases w : some kx = some a
            · rw [if_pos w, sJ7_getNode_69, sJ7_getNode_70]
              exact fin _ fx.symm
            · rw [if_neg w, sJ7_getNode_56, sJ7_getNode_57, if_neg (by simp), sJ7_getNode_60, sJ7_getNode_61, sJ7_getNode_63 S.1 S.2.1, eq, Kt_v, if_pos p.symm, sJ7_getNode_66, if_neg (by decide), sJ7_getNode_69, sJ7_getNode_70]
              exact fin _ fx.symm
          · by_cases p2 : sprd (hashS (ndT h' v x)) ≠ sprd (hashS (vTx v a))
            · rw [if_pos p2]
              exact next p _
            · have w : ¬ some kx = some a := by
                intro w
                have w' : kx = a := Option.some.inj w
                subst w'
                have e := st_equals (r := 0) (Q := fun o _ => o = Sum.inl (some (vI 1))) S f5
                have e2 := st_equals (r := 0) (Q := fun o _ => o = Sum.inl (some (vI 1))) S S
                rw [e, if_neg (fun z => p z.symm), if_pos rfl] at e2
                exact absurd (e2.mpr rfl) (by simp)
              rw [if_neg p2, sJ7_getNode_45, sJ7_getNode_46 f1 f2, f4, sJ7_getNode_49, sJ7_getNode_50, sJ7_getNode_52, sJ7_getNode_53, if_neg w, sJ7_getNode_56, sJ7_getNode_57, if_neg (by simp), sJ7_getNode_60, sJ7_getNode_61, sJ7_getNode_63 S.1 S.2.1, eq, Kt_v, if_neg (fun z => p z.symm), sJ7_getNode_66, if_pos rfl]
              exact next p _
      · subst n64'
        have ndx : ∀ y, (y ∈ NS' ∧ bIx 64 (hI h' y 0) = bIx 64 (sprd (hashS (vTx v a)))) → ndF h' v y := fun y hy => nd y hy.1
        have k13 := (tr.2.2.2.1 rt tr.1).1
        obtain ⟨f1, f2, f3, kx, kb, f4, f5, f6, f7⟩ := ndx rt tr.1
        have eq : ∀ Q, Cl (r + 1) 125 [vR (some a), vR (some kx)] h' Q ↔ _ := fun Q => st_equals S f5
        obtain ⟨nxt, enx⟩ : ∃ z, hR h' rt 3 = some z := by
          cases e : hR h' rt 3 with
          | none => exact absurd e nx
          | some z => exact ⟨z, rfl⟩
        have next : ∀ l7, Rn (r + 1) 105 71 [some (vR (some m)), some (vR (some a)), some (vR (some t)), some (vR (some rt)), none, some (vI (iI (64 : Nat))), some (vI (sprd (hashS (vTx v a)))), l7] [] h' Q := fun l7 => by
          rw [sJ7_getNode_71, sJ7_getNode_72 f1 f2, enx, sJ7_getNode_75, sJ7_getNode_76, sJ7_getNode_78, if_neg (by simp), sJ7_getNode_81, sJ7_getNode_82 (by rw [k13]; decide), sJ7_getNode_85, if_neg (by decide), sJ7_getNode_88, sJ7_getNode_89 (by rw [k13]; decide), sJ7_getNode_92, sJ7_getNode_94, sJ7_getNode_95 k13]
          have k8 : (vTx v a).length = 8 → hK h' b = 44 := fun z => by omega
          by_cases ex : ∃ y, (y ∈ NS' ∧ bIx 64 (hI h' y 0) = bIx 64 (sprd (hashS (vTx v a)))) ∧ ndT h' v y = vTx v a
          · obtain ⟨y, y1, y2⟩ := ex
            rw [tf_get (res := some y) tr ndx S t8 okT ku' k8 (Or.inl ⟨y, rfl, y1, y2⟩), Kt_v, sJ7_getNode_98]
            refine q h' _ c' (ans _ (fun x ex => ?_) (fun z => by cases z))
            cases ex
            exact ⟨y1.1, y2⟩
          · rw [tf_get (res := none) tr ndx S t8 okT ku' k8 (Or.inr ⟨rfl, fun y hy e => ex ⟨y, hy, e⟩⟩), Kt_v, sJ7_getNode_98]
            refine q h' _ c' (ans _ (fun x ex => by cases ex) (fun _ x hx e => ex ⟨x, ⟨hx, hash x hx e⟩, e⟩))
        rw [o1, if_neg (by simp), sJ7_getNode_36, sJ7_getNode_37 f1 f2, f3, sJ7_getNode_40, sJ7_getNode_42]
        by_cases p : ndT h' v rt = vTx v a
        · have fin : Q (Sum.inl (some (vR (some rt)))) h' := by
            refine q h' _ c' (ans _ (fun x ex => ?_) (fun z => by cases z))
            cases ex
            exact ⟨tr.1.1, p⟩
          rw [p, if_neg (fun z => z rfl), sJ7_getNode_45, sJ7_getNode_46 f1 f2, f4, sJ7_getNode_49, sJ7_getNode_50, sJ7_getNode_52, sJ7_getNode_53]
          by_cases w : some kx = some a
          · rw [if_pos w, sJ7_getNode_69, sJ7_getNode_70]
            exact fin
          · rw [if_neg w, sJ7_getNode_56, sJ7_getNode_57, if_neg (by simp), sJ7_getNode_60, sJ7_getNode_61, sJ7_getNode_63 S.1 S.2.1, eq, Kt_v, if_pos p.symm, sJ7_getNode_66, if_neg (by decide), sJ7_getNode_69, sJ7_getNode_70]
            exact fin
        · by_cases p2 : sprd (hashS (ndT h' v rt)) ≠ sprd (hashS (vTx v a))
          · rw [if_pos p2]
            exact next _
          · have w : ¬ some kx = some a := by
              intro w
              have w' : kx = a := Option.some.inj w
              subst w'
              have e := st_equals (r := 0) (Q := fun o _ => o = Sum.inl (some (vI 1))) S f5
              have e2 := st_equals (r := 0) (Q := fun o _ => o = Sum.inl (some (vI 1))) S S
              rw [e, if_neg (fun z => p z.symm), if_pos rfl] at e2
              exact absurd (e2.mpr rfl) (by simp)
            rw [if_neg p2, sJ7_getNode_45, sJ7_getNode_46 f1 f2, f4, sJ7_getNode_49, sJ7_getNode_50, sJ7_getNode_52, sJ7_getNode_53, if_neg w, sJ7_getNode_56, sJ7_getNode_57, if_neg (by simp), sJ7_getNode_60, sJ7_getNode_61, sJ7_getNode_63 S.1 S.2.1, eq, Kt_v, if_neg (fun z => p z.symm), sJ7_getNode_66, if_pos rfl]
            exact next _
theorem v_mget (c : CR h v) (hm : hK v.1 m = 6) (ha : hK v.1 a = 10 ∨ (hK v.1 a = 11 ∧ (vTx v a).length < 8)) (t8 : (vTx v a).length ≤ 8)
    (q : ∀ h', CR h' v → Q (Sum.inl (some (vR (vMp v m (vTx v a))))) h') : Cl (r + 1) 66 [vR (some m), vR (some a)] h Q := by
  have km := c.kk hm (by decide)
  rw [eJ7_get, sJ7_get_0, sJ7_get_1, sJ7_get_2 km]
  refine v_getNode c hm ha t8 (fun h' o c' A => ?_)
  rw [Kt_v, sJ7_get_5, sJ7_get_6, sJ7_get_7]
  rcases A with ⟨e, e2⟩ | ⟨x, z, e, k1, k2, e3, e4⟩
  · rw [e, if_neg (fun z => z rfl), sJ7_get_10, sJ7_get_11, sJ7_get_18, ← e2]
    exact q h' c'
  · rw [e, if_pos (by simp), sJ7_get_14, sJ7_get_15 k1 k2, e3, sJ7_get_18, ← e4]
    exact q h' c'
theorem v_mhas (c : CR h v) (hm : hK v.1 m = 6) (ha : hK v.1 a = 10 ∨ (hK v.1 a = 11 ∧ (vTx v a).length < 8)) (t8 : (vTx v a).length ≤ 8)
    (q : ∀ h', CR h' v → Q (Sum.inl (some (vI (if vMp v m (vTx v a) = none then 0 else 1)))) h') : Cl (r + 1) 120 [vR (some m), vR (some a)] h Q := by
  have km := c.kk hm (by decide)
  rw [eJ7_containsKey, sJ7_containsKey_0, sJ7_containsKey_1, sJ7_containsKey_2 km]
  refine v_getNode c hm ha t8 (fun h' o c' A => ?_)
  have := q h' c'
  rw [Kt_v, sJ7_containsKey_5]
  rcases A with ⟨e, e2⟩ | ⟨x, z, e, k1, k2, e3, e4⟩
  · rw [e2, if_pos rfl] at this
    rw [e, if_pos rfl, sJ7_containsKey_12, sJ7_containsKey_13 rfl]
    exact this
  · rw [e4, if_neg (by simp)] at this
    rw [e, if_neg (by simp), sJ7_containsKey_8, sJ7_containsKey_9, sJ7_containsKey_13 rfl]
    exact this
end HMG
