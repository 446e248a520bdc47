/-! JDK: lists, 7: one more at the end *-/
section AL7
variable {r e a n : Nat} {h : am_H} {Q : am_O → am_H → Prop} {x : Option Nat}
theorem al_add2 (ha : hK h a = 4) (an : a < hN h) (hr : hR h a 1 = some e) (hs : hI h a 2 = iI n) (hk : hK h e = 46 ∨ (hK h e = 47 ∧ hL h e = 0)) (en : e < hN h) (hl : hL h e ≤ 30000) (hn : n ≤ hL h e) (ok : okV h x) :
    Cl r 164 [vR (some a), vR x, vR (some e), vI (iI n)] h Q ↔ Q (Sum.inl none) (aR h a e n x) := by
  have k1 : 40 ≤ hK h e := by rcases hk with z | z <;> omega
  have k2 : hK h e ≤ 49 := by rcases hk with z | z <;> omega
  have c0 : iI n ≠ iI (hL h e) ↔ n ≠ hL h e := by
    rw [ne_eq, iI_eq (by omega) (by omega) (by omega) (by omega)]
    omega
  rw [eJ5_add_2, sJ5_add_2_0, sJ5_add_2_1, sJ5_add_2_2 k1 k2, iI_nI, sJ5_add_2_3]
  unfold aR
  by_cases p : n = hL h e
  · rw [if_neg (fun z => c0.mp z p), if_pos p, sJ5_add_2_6, sJ5_add_2_7 ha, al_grow ha (by omega) hr (by rw [hs, p]) (by rcases hk with z | z; exact Or.inl z; exact Or.inr z.1) (by omega) hl, Kt_v, sJ5_add_2_10]
    refine al_put (by rw [hK_putR]; exact hK_gRn) ?_ ?_ (by rw [hK_putR, hK_gR (by omega)]; exact ha) ?_
    · rw [hL_putR, hL_gRn]
      unfold gLn
      split
      · omega
      · split <;> omega
    · rw [hL_putR, hL_gRn]
      unfold gLn
      split
      · omega
      · split <;> omega
    · cases x with
      | none => exact trivial
      | some v =>
        obtain ⟨o1, o2, o3⟩ := ok
        refine ⟨?_, ?_, ?_⟩
        · rw [hK_putR, hK_gR (by omega)]; exact o1
        · rw [hK_putR, hK_gR (by omega)]; exact o2
        · rw [hN_putR]
          unfold gR
          split
          · rw [hN_newC]; omega
          · rw [hN_cpyR, hN_newC]; omega
  · rw [if_pos (c0.mpr p), if_neg p]
    have k46 : hK h e = 46 := by
      rcases hk with z | z
      · exact z
      · omega
    exact al_put k46 (by omega) (by omega) ha ok
theorem al_add (ha : hK h a = 4) (an : a < hN h) (hr : hR h a 1 = some e) (hs : hI h a 2 = iI n) (hk : hK h e = 46 ∨ (hK h e = 47 ∧ hL h e = 0)) (en : e < hN h) (hl : hL h e ≤ 30000) (hn : n ≤ hL h e) (ok : okV h x) :
    Cl r 119 [vR (some a), vR x] h Q ↔ Q (Sum.inl (some (vI (iI 1)))) (aR (putI h a 0 (hI h a 0 + iI 1)) a e n x) := by
  have ok' : okV (putI h a 0 (hI h a 0 + iI 1)) x := by
    cases x with
    | none => exact trivial
    | some v => exact ok
  have ha' : hK (putI h a 0 (hI h a 0 + iI 1)) a = 4 := ha
  rw [eJ5_add, sJ5_add_0, sJ5_add_1, sJ5_add_2 ha, sJ5_add_5, sJ5_add_6, i_1, sJ5_add_7 ha, sJ5_add_10, sJ5_add_11, sJ5_add_12, sJ5_add_13 ha', hR_putI, hr, sJ5_add_16, sJ5_add_17 ha', hI_putI, if_neg (fun z => absurd z.2 (by decide)), hs, sJ5_add_20 ha']
  rw [al_add2 ha' an (by rw [hR_putI]; exact hr) (by rw [hI_putI, if_neg (fun z => absurd z.2 (by decide))]; exact hs) hk en hl hn ok', Kt_0, sJ5_add_23, i_1, sJ5_add_24 (by decide)]
end AL7
