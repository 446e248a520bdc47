/-! JDK: lists, 4: growing *-/
section AL4
variable {r e a : Nat} {h : am_H} {Q : am_O → am_H → Prop} {n : Int}
theorem iI_half {a : Int} (h1 : 0 ≤ a) (h2 : a < 2147483648) : iI a >>> (iI 1 &&& iI 31) = iI (a / 2) := by
  rw [show iI 1 &&& iI 31 = 1 from by decide]
  rw [← Int32.toInt_inj, iI_toInt (by omega) (by omega)]
  have e : (iI a >>> 1).toInt = ((iI a).toBitVec.sshiftRight 1).toInt := rfl
  rw [e, BitVec.toInt_sshiftRight, show (iI a).toBitVec.toInt = (iI a).toInt from rfl, iI_toInt (by omega) h2, Int.shiftRight_eq_div_pow]
  rfl
end AL4
