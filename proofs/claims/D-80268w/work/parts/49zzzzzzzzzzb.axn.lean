/-! COMPONENT, 141: find (21): the name *-/
/-- the first k bytes as a text -/
def bT (S : tSt) (k : Nat) : List Int32 := (List.range k).map (fun (i : Nat) => (iI (S 0 (i : Int))).toInt8.toInt32)
section AXN
variable {x rd tp wr wk r : Nat} {C R : Nat → Nat} {A : Nat → Int → Nat} {T : Nat → Nat} {p0 w t : Int} {g : Int → Int} {v v' : vT} {h : am_H} {S U : tSt} {Q : am_O → am_H → Prop}
theorem chr1 {b : Int} (h0 : 0 ≤ b) (h1 : b ≤ 255) : iI (sB b) &&& (255 : Int32) = iI b := by
  apply Int32.toInt_inj.mp
  have e := and255 (iI (sB b))
  have e2 : (iI (sB b) &&& (255 : Int32)).toInt = (iI (sB b) &&& iI 255).toInt := rfl
  have hb : -128 ≤ sB b ∧ sB b < 128 := by unfold sB; split <;> omega
  rw [e2, e, iI_toInt (by omega) (by omega), iI_toInt (by omega) (by omega)]
  unfold sB
  split <;> omega
theorem chr2 {b : Int} (h0 : 0 ≤ b) (h1 : b ≤ 255) : ((iI b).toUInt32 % 65536).toInt32 = iI b := by
  have e : (iI b).toUInt32.toNat = b.toNat := by
    show (iI b).toBitVec.toNat = b.toNat
    have q := iI_toInt (a := b) (by omega) (by omega)
    have e2 : (iI b).toInt = (iI b).toBitVec.toInt := rfl
    have lt := (iI b).toBitVec.isLt
    rw [e2, BitVec.toInt_eq_toNat_cond] at q
    split at q <;> omega
  have e3 : (iI b).toUInt32 % 65536 = (iI b).toUInt32 := by
    apply UInt32.toNat_inj.mp
    rw [UInt32.toNat_mod, e]
    show b.toNat % 65536 = b.toNat
    omega
  rw [e3]
  rfl
theorem bT_s {k : Nat} : bT S (k + 1) = bT S k ++ [(iI (S 0 (k : Int))).toInt8.toInt32] := by
  unfold bT
  rw [List.range_succ, List.map_append]
  rfl
theorem bT_l {k : Nat} : (bT S k).length = k := by
  unfold bT
  rw [List.length_map, List.length_range]
/-- letters all the way, and the number of the word -/
theorem tFw_b (s0 : ∀ j, 0 ≤ S 0 j ∧ S 0 j ≤ 255) : ∀ (d k : Nat), (∀ y, y ∈ bT S k → 97 ≤ y.toInt ∧ y.toInt ≤ 122) → tFw S d k (wN (bT S k)) = none ∧ (¬ ∀ y, y ∈ bT S (k + d) → 97 ≤ y.toInt ∧ y.toInt ≤ 122) ∨ tFw S d k (wN (bT S k)) = some (wN (bT S (k + d))) ∧ ∀ y, y ∈ bT S (k + d) → 97 ≤ y.toInt ∧ y.toInt ≤ 122 := by
  intro d
  induction d with
  | zero => intro k hk; exact Or.inr ⟨rfl, hk⟩
  | succ d ih =>
    intro k hk
    have sk := s0 k
    rw [tFw]
    by_cases z : 97 ≤ S 0 k ∧ S 0 k ≤ 122
    · rw [if_pos z]
      have lc := let_c z.1 z.2
      have e : (iI (S 0 (k : Int))).toInt8.toInt32.toInt = S 0 k := by rw [lc.2, iI_toInt (by omega) (by omega)]
      have ew : wN (bT S k) * 256 + S 0 k = wN (bT S (k + 1)) := by rw [bT_s, wN_snoc, e]
      have := ih (k + 1) (fun y hy => by
        rw [bT_s, List.mem_append] at hy
        rcases hy with hy | hy
        · exact hk y hy
        · simp at hy
          rw [hy, e]
          exact z)
      rw [ew, show ((k : Nat) : Int) + 1 = ((k + 1 : Nat) : Int) by omega, show k + (d + 1) = k + 1 + d by omega]
      exact this
    · rw [if_neg z]
      refine Or.inl ⟨rfl, fun hh => ?_⟩
      have m : (iI (S 0 (k : Int))).toInt8.toInt32 ∈ bT S (k + (d + 1)) := List.mem_map.mpr ⟨k, List.mem_range.mpr (by omega), rfl⟩
      have := hh _ m
      rw [b8, and255] at this
      have hb : -128 ≤ sB (S 0 k) ∧ sB (S 0 k) < 128 := by unfold sB; split <;> omega
      rw [iI_toInt (a := S 0 (k : Int)) (by omega) (by omega), show S 0 (k : Int) % 256 = S 0 k by omega, iI_toInt (by omega) (by omega)] at this
      unfold sB at this
      split at this <;> omega
end AXN
