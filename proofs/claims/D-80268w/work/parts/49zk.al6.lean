/-! JDK: lists, 6: one more at the end *-/
/-- what a list may hold -/
def okV (h : am_H) : Option Nat → Prop
  | none => True
  | some v => 0 < hK h v ∧ hK h v < 40 ∧ v < hN h
def aR (h : am_H) (a e n : Nat) (x : Option Nat) : am_H :=
  if n = hL h e then putI (putR (putR (gR h e) a 1 (some (hN h))) (hN h) n x) a 2 (iI (n + 1)) else putI (putR h e n x) a 2 (iI (n + 1))
section AL6
variable {r e a n : Nat} {h : am_H} {Q : am_O → am_H → Prop} {x : Option Nat} {l0 l1 l2 l3 : Option am_V}
theorem hK_gR {b : Nat} (hb : b ≠ hN h) : hK (gR h e) b = hK h b := by
  unfold gR
  split
  · rw [hK_newC, if_neg hb]
  · rw [hK_cpyR, hK_newC, if_neg hb]
theorem hK_gRn : hK (gR h e) (hN h) = 46 := by
  unfold gR
  split
  · rw [hK_newC, if_pos rfl]
  · rw [hK_cpyR, hK_newC, if_pos rfl]
theorem hL_gRn : hL (gR h e) (hN h) = if hL h e = 0 ∧ e = hE h 31 then 10 else gLn (hL h e) := by
  unfold gR
  split
  · rw [hL_newC, if_pos rfl]
  · rw [hL_cpyR, hL_newC, if_pos rfl]
theorem al_put (hk : hK h e = 46) (hn : n < hL h e) (hl : hL h e ≤ 60000) (ha : hK h a = 4) (ok : okV h x) :
    Rn r 164 11 [some (vR (some a)), some (vR x), some (vR (some e)), some (vI (iI n))] [] h Q ↔ Q (Sum.inl none) (putI (putR h e n x) a 2 (iI (n + 1))) := by
  have b : ¬ (iI n < 0 ∨ hL h e ≤ (iI n).toNatClampNeg) := iI_bd (by omega) (by omega) (by omega)
  have nn : (iI n).toNatClampNeg = n := by rw [iI_nat (by omega) (by omega)]; omega
  rw [sJ5_add_2_11, sJ5_add_2_12, sJ5_add_2_13]
  have st : Rn r 164 14 [some (vR (some a)), some (vR x), some (vR (some e)), some (vI (iI n))] [vR x, vI (iI n), vR (some e)] h Q ↔ Rn r 164 15 [some (vR (some a)), some (vR x), some (vR (some e)), some (vI (iI n))] [] (putR h e n x) Q := by
    cases x with
    | none => rw [sJ5_add_2_14_n (Or.inl hk) b, nn]
    | some v => rw [sJ5_add_2_14 (Or.inl ⟨hk, ok.1, ok.2.1⟩) b, nn]
  rw [st, sJ5_add_2_15, sJ5_add_2_16, sJ5_add_2_17, sJ5_add_2_18, i_1, iI_add, sJ5_add_2_19 (by rw [hK_putR]; exact ha), sJ5_add_2_22]
end AL6
