/-! JDK: numbers as objects *-/
section VIN
variable {r a : Nat} {h : am_H} {v : vT} {Q : am_O → am_H → Prop} {x : Int}
/-- a number's object -/
def isIg (v : vT) (a : Nat) (x : Int) : Prop := (hK v.1 a = 8 ∨ hK v.1 a = 9) ∧ hI v.1 a 0 = iI x
theorem v_intValue (c : CR h v) (ha : isIg v a x) : Cl r 135 [vR (some a)] h Q ↔ Q (Sum.inl (some (vI (iI x)))) h := by
  obtain ⟨k, e⟩ := ha
  have hk : hK h a = 8 ∨ hK h a = 9 := by
    rcases k with k | k
    · exact Or.inl (c.kk k (by decide))
    · exact Or.inr (c.kk k (by decide))
  have hi : hI h a 0 = iI x := by
    rcases k with k | k
    · rw [(c.f k (by decide) (by unfold opq; omega) 0).1, e]
    · rw [(c.f k (by decide) (by unfold opq; omega) 0).1, e]
  have h1 : 8 ≤ hK h a := by omega
  have h2 : hK h a ≤ 9 := by omega
  rw [eJ12_intValue, sJ12_intValue_0, sJ12_intValue_1 h1 h2, hi, sJ12_intValue_4]
theorem v_valueOf (c : CR h v) (x1 : -2147483648 ≤ x) (x2 : x < 2147483648)
    (q1 : ∀ b, isIg v b x → Q (Sum.inl (some (vR (some b)))) h) (q2 : ∀ h', CR h' (vpI (vnw v 8 1) (hN v.1) 0 (iI x)) → Q (Sum.inl (some (vR (some (hN v.1))))) h') : Cl r 281 [vI (iI x)] h Q := by
  have m : (-128 : Int32) = iI (-128) := rfl
  have m2 : (127 : Int32) = iI 127 := rfl
  have hn := c.hn
  rw [eJ12_valueOf, sJ12_valueOf_0, sJ12_valueOf_1, m, sJ12_valueOf_3]
  have e1 : iI x < iI (-128) ↔ x < -128 := iI_lt x1 x2 (by decide) (by decide)
  have e2 : iI 127 < iI x ↔ 127 < x := iI_lt (by decide) (by decide) x1 x2
  have new : Rn r 281 23 [some (vI (iI x))] [] h Q := by
    rw [sJ12_valueOf_23, sJ12_valueOf_26, sJ12_valueOf_27, sJ12_valueOf_28 (by rw [hK_newC, if_pos rfl]; decide) (by rw [hK_newC, if_pos rfl]; decide), eJ12_init, sJ12_init_0, sJ12_init_1 (by rw [hK_newC, if_pos rfl]; decide) (by rw [hK_newC, if_pos rfl]; decide), eJ11_init, sJ11_init_0, sJ11_init_1, sJ11_init_4, Kt_0, sJ12_init_4, sJ12_init_5, sJ12_init_6 (by rw [hK_newC, if_pos rfl]), sJ12_init_9, Kt_0, sJ12_valueOf_31, hn]
    refine q2 _ ?_
    exact CR_pI (n := 8) (CR_nw c rfl) (by rw [vnw_1, hK_newC, if_pos rfl]) rfl
  by_cases p1 : x < -128
  · rw [if_pos (e1.mpr p1)]
    exact new
  · rw [if_neg (fun z => p1 (e1.mp z)), sJ12_valueOf_6, sJ12_valueOf_7, m2, sJ12_valueOf_10]
    by_cases p2 : 127 < x
    · rw [if_pos (e2.mpr p2)]
      exact new
    · rw [if_neg (fun z => p2 (e2.mp z)), sJ12_valueOf_13, sJ12_valueOf_16, sJ12_valueOf_17, sJ12_valueOf_20]
      obtain ⟨g, d⟩ := c
      obtain ⟨_, ⟨t4, t5, t6, t7⟩, _⟩ := d.2.2.2.1
      have nx : ((x + 128).toNat : Int) = x + 128 := by omega
      have ex : iI x + (128 : Int32) = iI ((x + 128).toNat : Int) := by rw [show (128 : Int32) = iI 128 from rfl, iI_add, nx]
      obtain ⟨b, d1, d2, d3, d4, d5, d6⟩ := t7 (x + 128).toNat (by omega)
      rw [ex, sJ12_valueOf_21 (by rw [t4]; decide) (by rw [t4]; decide) (by rw [t5]; exact bd_i (by omega) (by omega)), nn_i (by omega), sJ12_valueOf_22, d1]
      refine q1 b ⟨Or.inr d5, ?_⟩
      rw [d6, nx]
      congr 1
      omega
end VIN
