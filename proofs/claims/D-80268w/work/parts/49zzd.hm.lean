/-! JDK: maps, 1: where a key lies; a bin that is a list *-/
section HM1
variable {r a b e n k i m x y : Nat} {h h' : am_H} {v : vT} {Q : am_O → am_H → Prop} {T U V S : List Int32} {l0 l1 l2 l3 l4 l5 l6 l7 : Option am_V}
theorem bIx_lt (n : Nat) (hn : n = 16 ∨ n = 32 ∨ n = 64) (x : Int32) : bIx n x < n ∧ iI (n - 1) &&& x = iI (bIx n x) := by
  have key : ∀ (c : Nat), c < 64 → (iI c &&& x).toInt = ((iI c &&& x).toBitVec.toNat : Int) ∧ (iI c &&& x).toBitVec.toNat ≤ c := by
    intro c hc
    have e : (iI c &&& x).toBitVec = (iI c).toBitVec &&& x.toBitVec := rfl
    have e2 : (iI c).toBitVec.toNat = c := by
      rw [← iI_nI]
      show (BitVec.ofNat 32 c).toNat = c
      rw [BitVec.toNat_ofNat]
      omega
    have le : (iI c &&& x).toBitVec.toNat ≤ c := by
      rw [e, BitVec.toNat_and, e2]
      exact Nat.and_le_left
    refine ⟨?_, le⟩
    show (iI c &&& x).toBitVec.toInt = _
    rw [BitVec.toInt_eq_toNat_cond, if_pos (by omega)]
  have key2 : ∀ (c : Nat), c < 64 → (iI c &&& x).toNatClampNeg ≤ c ∧ iI c &&& x = iI (iI c &&& x).toNatClampNeg := by
    intro c hc
    obtain ⟨k1, k2⟩ := key c hc
    have k3 : (iI c &&& x).toNatClampNeg = (iI c &&& x).toBitVec.toNat := by
      rw [Int32.toNatClampNeg, k1, Int.toNat_natCast]
    refine ⟨by omega, ?_⟩
    rw [k3, ← k1, iI_of]
  unfold bIx
  rcases hn with rfl | rfl | rfl
  · have := key2 15 (by decide); exact ⟨Nat.lt_succ_of_le this.1, this.2⟩
  · have := key2 31 (by decide); exact ⟨Nat.lt_succ_of_le this.1, this.2⟩
  · have := key2 63 (by decide); exact ⟨Nat.lt_succ_of_le this.1, this.2⟩
/-- a node and its key's text -/
def ndF (h : am_H) (v : vT) (x : Nat) : Prop := 12 ≤ hK h x ∧ hK h x ≤ 13 ∧ hI h x 0 = sprd (hashS (ndT h v x)) ∧ ∃ k b, hR h x 1 = some k ∧ RS h k b (ndT h v x) ∧ okK (ndT h v x) ∧ ((ndT h v x).length = 8 → hK h b = 44)
theorem CR.nd {g : Nat → Nat} (c : CR h v) (d : isNd g h v m x) : ndF h v x := by
  obtain ⟨n1, n2, n3, k, z, n4, n5, n6, n7, n8, n9, n10⟩ := d
  obtain ⟨b, s, _, s4⟩ := c.rs (a := k) (by omega)
  have e : ndT h v x = vTx v k := by unfold ndT; rw [n4]
  exact ⟨by omega, by omega, by rw [e]; exact n8, k, b, n4, by rw [e]; exact s, by rw [e]; exact n7, fun w => by rw [e] at w; omega⟩
/-- the node of a text in a list -/
def ndFind (h : am_H) (v : vT) (T : List Int32) : List Nat → Option Nat
  | [] => none
  | x :: l => if ndT h v x = T then some x else ndFind h v T l
theorem gn_list (s : RS h a b T) : ∀ (xs : List Nat) (x : Nat), chn h (some x) (x :: xs) → (∀ y, y ∈ x :: xs → ndF h v y) → ∀ l0 l2 l3 l5 l7,
    (Rn r 105 99 [l0, some (vR (some a)), l2, l3, some (vR (some x)), l5, some (vI (sprd (hashS T))), l7] [] h Q ↔ Q (Sum.inl (some (vR (ndFind h v T (x :: xs))))) h) := by
  intro xs
  induction xs with
  | nil =>
    intro x c nd l0 l2 l3 l5 l7
    obtain ⟨f1, f2, f3, k, kb, f4, f5, f6, f7⟩ := nd x (List.mem_cons_self ..)
    have nx : hR h x 3 = none := c.2
    have fin : ∀ l0 l2 l3 l5 l7 : Option am_V, Rn r 105 137 [l0, some (vR (some a)), l2, l3, some (vR (some x)), l5, some (vI (sprd (hashS T))), l7] [] h Q ↔ Q (Sum.inl (some (vR none))) h := by
      intro l0 l2 l3 l5 l7
      rw [sJ7_getNode_137, sJ7_getNode_139 f1 f2, nx, sJ7_getNode_142, sJ7_getNode_143, sJ7_getNode_145, if_neg (fun z => z rfl), sJ7_getNode_148, sJ7_getNode_149]
    have eq : ∀ Q, Cl r 125 [vR (some a), vR (some k)] h Q ↔ _ := fun Q => st_equals s f5
    rw [ndFind, sJ7_getNode_99, sJ7_getNode_101 f1 f2, f3, sJ7_getNode_104, sJ7_getNode_106]
    by_cases p : ndT h v x = T
    · rw [p, if_neg (fun z => z rfl), if_pos rfl, sJ7_getNode_109, sJ7_getNode_111 f1 f2, f4, sJ7_getNode_114, sJ7_getNode_115, sJ7_getNode_117, sJ7_getNode_118]
      by_cases q : some k = some a
      · rw [if_pos q, sJ7_getNode_134, sJ7_getNode_136]
      · rw [if_neg q, sJ7_getNode_121, sJ7_getNode_122, if_neg (by simp), sJ7_getNode_125, sJ7_getNode_126, sJ7_getNode_128 s.1 s.2.1, eq, Kt_v, p, if_pos rfl, sJ7_getNode_131, if_neg (by decide), sJ7_getNode_134, sJ7_getNode_136]
    · rw [if_neg p, ndFind]
      by_cases p2 : sprd (hashS (ndT h v x)) ≠ sprd (hashS T)
      · rw [if_pos p2, fin]
      · rw [if_neg p2, sJ7_getNode_109, sJ7_getNode_111 f1 f2, f4, sJ7_getNode_114, sJ7_getNode_115, sJ7_getNode_117, sJ7_getNode_118]
        by_cases q : some k = some a
        · exfalso
          have q' : k = a := Option.some.inj q
          subst q'
          have e := st_equals (r := 0) (Q := fun o _ => o = Sum.inl (some (vI 1))) s f5
          have e2 := st_equals (r := 0) (Q := fun o _ => o = Sum.inl (some (vI 1))) s s
          rw [e, if_neg (fun z => p z.symm), if_pos rfl] at e2
          exact absurd (e2.mpr rfl) (by simp)
        · rw [if_neg q, sJ7_getNode_121, sJ7_getNode_122, if_neg (by simp), sJ7_getNode_125, sJ7_getNode_126, sJ7_getNode_128 s.1 s.2.1, eq, Kt_v, if_neg (fun z => p z.symm), sJ7_getNode_131, if_pos rfl, fin]
  | cons x2 l ih =>
    intro x c nd l0 l2 l3 l5 l7
    obtain ⟨f1, f2, f3, k, kb, f4, f5, f6, f7⟩ := nd x (List.mem_cons_self ..)
    have nx : hR h x 3 = some x2 := c.2.1
    have fin : ∀ l0 l2 l3 l5 l7 : Option am_V, Rn r 105 137 [l0, some (vR (some a)), l2, l3, some (vR (some x)), l5, some (vI (sprd (hashS T))), l7] [] h Q ↔ Q (Sum.inl (some (vR (ndFind h v T (x2 :: l))))) h := by
      intro l0 l2 l3 l5 l7
      rw [sJ7_getNode_137, sJ7_getNode_139 f1 f2, nx, sJ7_getNode_142, sJ7_getNode_143, sJ7_getNode_145, if_pos (by simp)]
      exact ih x2 ⟨rfl, c.2.2⟩ (fun y hy => nd y (List.mem_cons_of_mem _ hy)) _ _ _ _ _
    have eq : ∀ Q, Cl r 125 [vR (some a), vR (some k)] h Q ↔ _ := fun Q => st_equals s f5
    rw [ndFind, sJ7_getNode_99, sJ7_getNode_101 f1 f2, f3, sJ7_getNode_104, sJ7_getNode_106]
    by_cases p : ndT h v x = T
    · rw [p, if_neg (fun z => z rfl), if_pos rfl, sJ7_getNode_109, sJ7_getNode_111 f1 f2, f4, sJ7_getNode_114, sJ7_getNode_115, sJ7_getNode_117, sJ7_getNode_118]
      by_cases q : some k = some a
      · rw [if_pos q, sJ7_getNode_134, sJ7_getNode_136]
      · rw [if_neg q, sJ7_getNode_121, sJ7_getNode_122, if_neg (by simp), sJ7_getNode_125, sJ7_getNode_126, sJ7_getNode_128 s.1 s.2.1, eq, Kt_v, p, if_pos rfl, sJ7_getNode_131, if_neg (by decide), sJ7_getNode_134, sJ7_getNode_136]
    · rw [if_neg p]
      by_cases p2 : sprd (hashS (ndT h v x)) ≠ sprd (hashS T)
      · rw [if_pos p2, fin]
      · rw [if_neg p2, sJ7_getNode_109, sJ7_getNode_111 f1 f2, f4, sJ7_getNode_114, sJ7_getNode_115, sJ7_getNode_117, sJ7_getNode_118]
        by_cases q : some k = some a
        · exfalso
          have q' : k = a := Option.some.inj q
          subst q'
          have e := st_equals (r := 0) (Q := fun o _ => o = Sum.inl (some (vI 1))) s f5
          have e2 := st_equals (r := 0) (Q := fun o _ => o = Sum.inl (some (vI 1))) s s
          rw [e, if_neg (fun z => p z.symm), if_pos rfl] at e2
          exact absurd (e2.mpr rfl) (by simp)
        · rw [if_neg q, sJ7_getNode_121, sJ7_getNode_122, if_neg (by simp), sJ7_getNode_125, sJ7_getNode_126, sJ7_getNode_128 s.1 s.2.1, eq, Kt_v, if_neg (fun z => p z.symm), sJ7_getNode_131, if_pos rfl, fin]
end HM1
