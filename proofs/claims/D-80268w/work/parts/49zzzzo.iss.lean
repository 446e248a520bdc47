/-! PURE: rows of a statement that neither sets nor breaks *-/
section ISS
variable {w s c : Int} {U U' : tSt}
theorem isS_fx (h : FX w s U U') (pq : PQ w U) (qv : QV U) (w0 : 0 ≤ w) (e19 : U' 19 w = U 19 w) (k1 : U 20 s ≠ 3) (k2 : U' 20 s ≠ 3) : isS U' w c = isS U w c := by
  unfold isS
  rw [e19]
  refine tFor_cg _ _ _ (fun k z k0 k1' => ?_)
  have hs : As w U (w * 120 + k) := ⟨by omega, by omega⟩
  by_cases e : w * 120 + k = s
  · rw [e, decide_eq_false k1, decide_eq_false k2, Bool.false_and, Bool.false_and]
  · rw [h.fs (f := 20) hs (by decide) (by decide) (by decide) (Or.inl e), h.fs (f := 22) hs (by decide) (by decide) (by decide) (Or.inl e), h.fs (f := 25) hs (by decide) (by decide) (by decide) (Or.inl e), pO_fx h pq qv w0 (pq.1 _ hs).1]
theorem stL_fx (h : FX w s U U') (e19 : U' 19 w = U 19 w) {p p' : Int → Bool} (hp : ∀ k, As w U k → k ≠ s → p' k = p k) (ps : As w U s → p' s = p s) : stL U' w p' = stL U w p := by
  unfold stL
  rw [e19]
  apply List.filter_congr
  intro k hk
  obtain ⟨i, hi, e2⟩ := List.mem_map.mp hk
  have hi' := List.mem_range.mp hi
  have hk' : As w U k := ⟨by omega, by omega⟩
  by_cases e : k = s
  · rw [e] at hk' ⊢
    exact ps hk'
  · exact hp k hk' e
theorem mPar_fx (h : FX w s U U') (p : PQ w U) (qv : QV U) (w0 : 0 ≤ w ∧ w ≤ 1) (n3 : 4 ≤ U 3 w ∧ U 3 w ≤ 16) (n9 : 0 ≤ U 9 w ∧ U 9 w ≤ 12) (n19 : 0 ≤ U 19 w ∧ U 19 w ≤ 120) (e19 : U' 19 w = U 19 w) (hs : s = w * 120 + (U 19 w - 1)) (h1 : 1 ≤ U 19 w) (m0 : mPs U w s = []) :
    mPar U' w = mPar U w ++ mPs U' w s := by
  unfold mPar
  rw [h.fk (f := 3) (by decide) (by omega), h.fk (f := 9) (by decide) (by omega), e19, show (U 19 w).toNat = (U 19 w - 1).toNat + 1 by omega, tCat_sn, tCat_sn, show (0 : Int) + ((U 19 w - 1).toNat : Int) = U 19 w - 1 by omega, ← hs, m0, List.append_nil]
  rw [tCat_congr (f := mKind U' w) (g := mKind U w) _ _ (fun k a b => mKind_fx h w0 n3 (by omega)), tCat_congr (f := mPm U' w) (g := mPm U w) _ _ (fun k a b => mPm_fx h w0 n3 n9 qv (by omega)), tCat_congr (f := fun k => mPs U' w (w * 120 + k)) (g := fun k => mPs U w (w * 120 + k)) _ _ (fun k a b => mPs_fx h p qv w0 n3 ⟨by omega, by omega⟩ (by omega))]
  simp only [List.append_assoc]
end ISS
