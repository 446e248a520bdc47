/-! COMPONENT, 8: which words are keywords *-/
set_option maxRecDepth 20000 in
theorem kws6 : kws (cT 6) = [cT 5, cT 8, cT 9, cT 10, cT 11, cT 12, cT 14, cT 15, cT 16, cT 17, cT 18, cT 24, cT 19, cT 20, cT 21, cT 22, cT 23, cT 25, cT 26, [114, 117, 110]] := by rfl
set_option maxRecDepth 20000 in
theorem kws13 : kws (cT 13) = [cT 14, cT 15, cT 16, cT 17, cT 18, cT 19, cT 20, cT 21, cT 22, cT 23, [114, 117, 110]] := by rfl
set_option maxRecDepth 20000 in
theorem kal6 : ∀ i, i < (cT 6).length → (cT 6).getD i 0 = 32 → (cT 6).getD (i + 1 + (wAt (cT 6) i).length) 0 = 32 → wAt (cT 6) i ≠ [] → ((cT 6).drop i).take ((wAt (cT 6) i).length + 2) = 32 :: (wAt (cT 6) i ++ [32]) := by decide
set_option maxRecDepth 20000 in
theorem kal13 : ∀ i, i < (cT 13).length → (cT 13).getD i 0 = 32 → (cT 13).getD (i + 1 + (wAt (cT 13) i).length) 0 = 32 → wAt (cT 13) i ≠ [] → ((cT 13).drop i).take ((wAt (cT 13) i).length + 2) = 32 :: (wAt (cT 13) i ++ [32]) := by decide
theorem kw_l6 : ∀ V, V ∈ kws (cT 6) → lts V := by rw [kws6]; unfold lts; decide
theorem kw_l13 : ∀ V, V ∈ kws (cT 13) → lts V := by rw [kws13]; unfold lts; decide
theorem kw_m6 : (kws (cT 6)).map wN = tKws := by rw [kws6]; rfl
theorem kw_m13 : (kws (cT 13)).map wN = [wDo, wCall, wThrow, wSet, wIf, wWhile, wLoop, wBreak, wReturn, wTry, wRun] := by rw [kws13]; rfl
theorem kw_mem {K : List (List Int32)} (l : ∀ V, V ∈ K → lts V) {T : List Int32} (lt : lts T) : T ∈ K ↔ wN T ∈ K.map wN := by
  rw [List.mem_map]
  constructor
  · intro h
    exact ⟨T, h, rfl⟩
  · rintro ⟨V, h, e⟩
    rw [wN_inj (l V h) lt] at e
    rw [← e]
    exact h
theorem key_iff {T : List Int32} (lt : lts T) (t1 : T ≠ []) (t8 : T.length ≤ 8) : 0 ≤ fndI (cT 6) (32 :: (T ++ [32])) ((cT 6).length - (32 :: (T ++ [32])).length + 1) 0 ↔ tKw (wN T) = true := by
  rw [kws_iff lt t1 (by rw [show (cT 6).length = 105 from rfl]; omega) kal6, kw_mem kw_l6 lt, kw_m6]
  unfold tKw
  rw [List.contains_iff_mem]
theorem beg_iff {T : List Int32} (lt : lts T) (t1 : T ≠ []) (t8 : T.length ≤ 8) : 0 ≤ fndI (cT 13) (32 :: (T ++ [32])) ((cT 13).length - (32 :: (T ++ [32])).length + 1) 0 ↔ [wDo, wCall, wThrow, wSet, wIf, wWhile, wLoop, wBreak, wReturn, wTry, wRun].contains (wN T) = true := by
  rw [kws_iff lt t1 (by rw [show (cT 13).length = 54 from rfl]; omega) kal13, kw_mem kw_l13 lt, kw_m13, List.contains_iff_mem]
