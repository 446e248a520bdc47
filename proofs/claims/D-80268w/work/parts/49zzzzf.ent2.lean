/-! COMPONENT, 25: a statement is entered *-/
section EN2
variable {w x s b c k p0 : Int} {S U U' : tSt} {v v' : vT} {A A' : Nat → Int → Nat} {T T' : Nat → Nat} {R : Nat → Nat} {a l5 : Nat}
theorem mPar_e (h : FU w U U') (p : PQ w U) (qv : QV U) (w0 : 0 ≤ w ∧ w ≤ 1) (n3 : 4 ≤ U 3 w ∧ U 3 w ≤ 16) (n9 : 0 ≤ U 9 w ∧ U 9 w ≤ 12) (n19 : 0 ≤ U 19 w ∧ U 19 w < 120) (n1 : U' 19 w = U 19 w + 1) :
    mPar U' w = mPar U w ++ mPs U' w (w * 120 + U 19 w) := by
  unfold mPar
  rw [h.fk (f := 3) (by decide) (by omega), h.fk (f := 9) (by decide) (by omega), n1, show (U 19 w + 1).toNat = (U 19 w).toNat + 1 by omega, tCat_sn, show (0 : Int) + ((U 19 w).toNat : Int) = U 19 w by omega]
  rw [tCat_congr (f := mKind U' w) (g := mKind U w) _ _ (fun k a b => mKind_fu h w0 n3 (by omega)), tCat_congr (f := mPm U' w) (g := mPm U w) _ _ (fun k a b => mPm_fu h w0 n3 n9 qv (by omega)), tCat_congr (f := fun k => mPs U' w (w * 120 + k)) (g := fun k => mPs U w (w * 120 + k)) _ _ (fun k a b => mPs_fu h p qv w0 n3 ⟨by omega, by omega⟩)]
  simp only [List.append_assoc]
theorem isS_e (h : FU w U U') (p : PQ w U) (qv : QV U) (w0 : 0 ≤ w) (n19 : 0 ≤ U 19 w ∧ U 19 w < 120) (n1 : U' 19 w = U 19 w + 1) :
    isS U' w c = (isS U w c || (decide (U' 20 (w * 120 + U 19 w) = 3) && decide ((pO U' (U' 25 (w * 120 + U 19 w)) (U' 22 (w * 120 + U 19 w))).1 = c))) := by
  unfold isS
  rw [n1, show (U 19 w + 1).toNat = (U 19 w).toNat + 1 by omega, tFor_sn, show (0 : Int) + ((U 19 w).toNat : Int) = U 19 w by omega]
  congr 1
  refine tFor_cg _ _ _ (fun k z k0 k1 => ?_)
  have hs : As w U (w * 120 + k) := ⟨by omega, by omega⟩
  rw [h.fs (f := 20) hs (by decide) (by decide) (by decide), h.fs (f := 22) hs (by decide) (by decide) (by decide), h.fs (f := 25) hs (by decide) (by decide) (by decide), pO_fu h p qv w0 (p.1 _ hs).1]
/-- addresses with one more statement -/
def Aex (A : Nat → Int → Nat) (s : Int) (a l5 : Nat) (f : Nat) (i : Int) : Nat := if i = s ∧ f = 2 then a else if i = s ∧ f = 5 then l5 else A f i
theorem Aex_2 : Aex A s a l5 2 s = a := if_pos ⟨rfl, rfl⟩
theorem Aex_o {f : Nat} {i : Int} (h : i ≠ s ∨ (f ≠ 2 ∧ f ≠ 5)) : Aex A s a l5 f i = A f i := by
  unfold Aex
  rw [if_neg (by omega), if_neg (by omega)]
theorem Aex_ae (hs : s = w * 120 + U 19 w) (ht : ∀ a, T a ≠ 0 → T a ≠ 4 → T' a = T a) : AE w U A (Aex A s a l5) T T' := by
  refine ⟨fun k hk => ⟨Aex_o (Or.inl ?_), Aex_o (Or.inl ?_)⟩, fun b _ => Aex_o (Or.inr (by decide)), fun c _ _ => Aex_o (Or.inr (by decide)), ?_, ?_, ht⟩
  · have := hk.2
    omega
  · have := hk.2
    omega
  · funext i
    exact Aex_o (Or.inr (by decide))
  · funext i
    exact Aex_o (Or.inr (by decide))
theorem As_e (n0 : 0 ≤ U 19 w) (n1 : U' 19 w = U 19 w + 1) : As w U' k ↔ As w U k ∨ k = w * 120 + U 19 w := by
  unfold As
  rw [n1]
  omega
end EN2
