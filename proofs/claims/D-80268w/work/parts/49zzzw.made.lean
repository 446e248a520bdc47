/-! COMPONENT, 19: made *-/
/-- the statement that a word begins, new -/
def mdO (v : vT) (k : Int) : vT :=
  if k = 0 then vpI (vnw v 30 7) (hN v.1) 5 0 else if k = 1 then vnw v 31 8 else if k = 2 then vnw v 32 7 else if k = 3 then vpI (vnw v 30 7) (hN v.1) 5 3 else if k = 4 then vnw v 33 7
  else if k = 5 then vpI (vFl (vnw v 34 8) (hN v.1) 7 1) (hN v.1) 5 1 else if k = 6 then vpI (vFl (vnw v 34 8) (hN v.1) 7 1) (hN v.1) 5 0 else if k = 7 then vFl (vnw v 35 7) (hN v.1) 6 1
  else if k = 8 then vpI (vnw v 30 7) (hN v.1) 5 8 else if k = 9 then vFl (vFl (vFl (vFl (vnw v 36 12) (hN v.1) 5 1) (hN v.1) 6 1) (hN v.1) 7 1) (hN v.1) 9 2 else vFl (vnw v 37 7) (hN v.1) 6 1
def mdI (x : Int) : Int := if x = wDo then 0 else if x = wCall then 1 else if x = wThrow then 2 else if x = wSet then 3 else if x = wIf then 4 else if x = wWhile then 5 else if x = wLoop then 6 else if x = wBreak then 7 else if x = wReturn then 8 else if x = wTry then 9 else 10
def mdV (v : vT) (S : tSt) : vT := if S 51 0 = 123 then vnw v 38 6 else mdO v (mdI (S 50 0))
section MDS
variable {r rd tp wr a : Nat} {h : am_H} {v : vT} {S : tSt} {Q : am_O → am_H → Prop} {l0 l1 : Option am_V}
theorem nw_k {c n : Nat} : hK (vnw v c n).1 (hN v.1) = c := by rw [vnw_1, hK_newC, if_pos rfl]
theorem nw_h {c n : Nat} : hK (newC h c n) (hN h) = c := by rw [hK_newC, if_pos rfl]
theorem md_0 (c : CR h v) (q : ∀ h', CR h' (mdO v 0) → Q (Sum.inl (some (vR (some (hN v.1))))) h') : Rn r 220 328 [l0, l1, some (vI 0)] [] h Q := by
  have c1 := CR_nw (m := 30) (n := 7) c rfl
  have nn := c.hn
  rw [sX1_made_328, sX1_made_331, sX1_made_332, sX1_made_333 (by rw [nw_h]; decide) (by rw [nw_h]; decide)]
  rw [c_iPlain nw_h, Kt_0, sX1_made_336, nn]
  exact q _ (CR_pI c1 nw_k rfl)
theorem md_1 (c : CR h v) (q : ∀ h', CR h' (mdO v 1) → Q (Sum.inl (some (vR (some (hN v.1))))) h') : Rn r 220 337 [l0, l1, some (vI 1)] [] h Q := by
  have c1 := CR_nw (m := 31) (n := 8) c rfl
  have nn := c.hn
  rw [sX1_made_337, sX1_made_340, sX1_made_341 (by rw [nw_h]; decide) (by rw [nw_h]; decide)]
  rw [c_iCall nw_h, Kt_0, sX1_made_344, nn]
  exact q _ c1
theorem md_2 (c : CR h v) (q : ∀ h', CR h' (mdO v 2) → Q (Sum.inl (some (vR (some (hN v.1))))) h') : Rn r 220 345 [l0, l1, some (vI 2)] [] h Q := by
  have c1 := CR_nw (m := 32) (n := 7) c rfl
  have nn := c.hn
  rw [sX1_made_345, sX1_made_348, sX1_made_349 (by rw [nw_h]; decide) (by rw [nw_h]; decide)]
  rw [c_iThrow nw_h, Kt_0, sX1_made_352, nn]
  exact q _ c1
theorem md_3 (c : CR h v) (q : ∀ h', CR h' (mdO v 3) → Q (Sum.inl (some (vR (some (hN v.1))))) h') : Rn r 220 353 [l0, l1, some (vI 3)] [] h Q := by
  have c1 := CR_nw (m := 30) (n := 7) c rfl
  have nn := c.hn
  rw [sX1_made_353, sX1_made_356, sX1_made_357, sX1_made_358 (by rw [nw_h]; decide) (by rw [nw_h]; decide)]
  rw [c_iPlain nw_h, Kt_0, sX1_made_361, nn]
  exact q _ (CR_pI c1 nw_k rfl)
theorem md_4 (c : CR h v) (q : ∀ h', CR h' (mdO v 4) → Q (Sum.inl (some (vR (some (hN v.1))))) h') : Rn r 220 362 [l0, l1, some (vI 4)] [] h Q := by
  have c1 := CR_nw (m := 33) (n := 7) c rfl
  have nn := c.hn
  rw [sX1_made_362, sX1_made_365, sX1_made_366 (by rw [nw_h]; decide) (by rw [nw_h]; decide)]
  rw [c_iIf nw_h, Kt_0, sX1_made_369, nn]
  exact q _ c1
theorem md_5 (c : CR h v) (q : ∀ h', CR h' (mdO v 5) → Q (Sum.inl (some (vR (some (hN v.1))))) h') : Rn r 220 370 [l0, l1, some (vI 5)] [] h Q := by
  have c1 := CR_nw (m := 34) (n := 8) c rfl
  have nn := c.hn
  rw [sX1_made_370, sX1_made_373, sX1_made_374, sX1_made_375 (by rw [nw_h]; decide) (by rw [nw_h]; decide)]
  rw [nn]
  refine c_iLoop c1 nw_k rfl (fun h' c' => ?_)
  rw [Kt_0, sX1_made_378]
  exact q _ c'
theorem md_6 (c : CR h v) (q : ∀ h', CR h' (mdO v 6) → Q (Sum.inl (some (vR (some (hN v.1))))) h') : Rn r 220 379 [l0, l1, some (vI 6)] [] h Q := by
  have c1 := CR_nw (m := 34) (n := 8) c rfl
  have nn := c.hn
  rw [sX1_made_379, sX1_made_382, sX1_made_383, sX1_made_384 (by rw [nw_h]; decide) (by rw [nw_h]; decide)]
  rw [nn]
  refine c_iLoop c1 nw_k rfl (fun h' c' => ?_)
  rw [Kt_0, sX1_made_387]
  exact q _ c'
theorem md_7 (c : CR h v) (q : ∀ h', CR h' (mdO v 7) → Q (Sum.inl (some (vR (some (hN v.1))))) h') : Rn r 220 388 [l0, l1, some (vI 7)] [] h Q := by
  have c1 := CR_nw (m := 35) (n := 7) c rfl
  have nn := c.hn
  rw [sX1_made_388, sX1_made_391, sX1_made_392 (by rw [nw_h]; decide) (by rw [nw_h]; decide)]
  rw [nn]
  refine c_iBreak c1 nw_k (fun h' c' => ?_)
  rw [Kt_0, sX1_made_395]
  exact q _ c'
theorem md_8 (c : CR h v) (q : ∀ h', CR h' (mdO v 8) → Q (Sum.inl (some (vR (some (hN v.1))))) h') : Rn r 220 396 [l0, l1, some (vI 8)] [] h Q := by
  have c1 := CR_nw (m := 30) (n := 7) c rfl
  have nn := c.hn
  rw [sX1_made_396, sX1_made_399, sX1_made_400, sX1_made_402 (by rw [nw_h]; decide) (by rw [nw_h]; decide)]
  rw [c_iPlain nw_h, Kt_0, sX1_made_405, nn]
  exact q _ (CR_pI c1 nw_k rfl)
theorem md_9 (c : CR h v) (q : ∀ h', CR h' (mdO v 9) → Q (Sum.inl (some (vR (some (hN v.1))))) h') : Rn r 220 406 [l0, l1, some (vI 9)] [] h Q := by
  have c1 := CR_nw (m := 36) (n := 12) c rfl
  have nn := c.hn
  rw [sX1_made_406, sX1_made_409, sX1_made_410 (by rw [nw_h]; decide) (by rw [nw_h]; decide)]
  rw [nn]
  refine c_iTry c1 nw_k (fun h' c' => ?_)
  rw [Kt_0, sX1_made_413]
  exact q _ c'
theorem md_10 (c : CR h v) (q : ∀ h', CR h' (mdO v 10) → Q (Sum.inl (some (vR (some (hN v.1))))) h') : Rn r 220 414 [l0, l1, some (vI (-1))] [] h Q := by
  have c1 := CR_nw (m := 37) (n := 7) c rfl
  have nn := c.hn
  rw [sX1_made_414, sX1_made_417, sX1_made_418 (by rw [nw_h]; decide) (by rw [nw_h]; decide)]
  rw [nn]
  refine c_iRun c1 nw_k (fun h' c' => ?_)
  rw [Kt_0, sX1_made_421]
  exact q _ c'
theorem c_made (c : CR h v) (t : PT v rd tp wr S) (bg : tBegins S = true) (q : ∀ h', CR h' (mdV v S) → Q (Sum.inl (some (vR (some (hN v.1))))) h') : Cl r 220 [vR (some rd)] h Q := by
  have kr := c.kk t.w0.1 (by decide)
  have nn := c.hn
  have e6 : hI h rd 6 = iI (S 51 0) := by rw [c.ii t.w0.1 rfl]; exact t.1.2.2.2.1
  have s51 := t.2.1.2.2.2.1
  have i123 : iI (S 51 0) = iI 123 ↔ S 51 0 = 123 := iI_eq (by omega) (by omega) (by omega) (by omega)
  unfold mdV at q
  rw [eX1_made, sX1_made_0, sX1_made_1 kr, e6, sX1_made_4, sX1_made_6, i_123]
  by_cases e : S 51 0 = 123
  · rw [if_pos e] at q
    rw [if_neg (fun z => z (i123.mpr e)), sX1_made_9, sX1_made_12, sX1_made_13 (by rw [nw_h]; decide) (by rw [nw_h]; decide), c_iGroup nw_h, Kt_0, sX1_made_16, nn]
    exact q _ (CR_nw c rfl)
  · rw [if_neg e] at q
    rw [if_pos (fun z => e (i123.mp z)), sX1_made_17, sX1_made_18 kr, c.rr t.w0.1 rfl]
    unfold tBegins at bg
    rw [decide_eq_false e, Bool.false_or, List.contains_iff_mem] at bg
    rcases t.1.2.2.2.2 with ⟨z, _⟩ | ⟨_, a, e1, e2, e3, e4⟩
    · rw [z] at bg
      exact absurd bg (by decide)
    · have mem : vTx v a ∈ kws (cT 13) := by rw [kw_mem kw_l13 e4.2, kw_m13, e3]; exact bg
      have ka := c.kk e2 (by decide)
      rw [e1, sX1_made_21, sX1_made_22, sX1_made_23, sX1_made_24, sX1_made_25 (by omega) (by omega)]
      refine v_hash c (Or.inl e2) (fun h1 c1 _ => ?_)
      have ka1 := c1.kk e2 (by decide)
      obtain ⟨b1, rs1, _⟩ := c1.rs (Or.inl e2)
      rw [Kt_v, sX1_made_28]
      rw [kws13] at mem
      rw [← e3] at q
      simp only [List.mem_cons, List.not_mem_nil, or_false] at mem
      rcases mem with m | m | m | m | m | m | m | m | m | m | m
      · obtain ⟨k2, t2⟩ := t.2.2.2.1 14 (by decide)
        obtain ⟨b2, rs2, _⟩ := c1.rs (Or.inr k2)
        rw [m] at rs1 q ⊢
        rw [t2] at rs2
        rw [show hashS (cT 14) = 3211 from by decide]
        rw [show mdI (wN (cT 14)) = 0 from rfl] at q
        show Rn r 220 120 [some (vR (some rd)), some (vR (some a)), some (vI (-1))] [] h1 Q
        rw [sX1_made_120, sX1_made_121, c1.he, sX1_made_124 (by omega) (by omega), st_equals rs1 rs2, if_pos rfl, Kt_v, sX1_made_127, if_neg (by decide), sX1_made_130, sX1_made_131, sX1_made_132, sX1_made_271, sX1_made_272]
        exact md_0 c1 q
      · obtain ⟨k2, t2⟩ := t.2.2.2.1 15 (by decide)
        obtain ⟨b2, rs2, _⟩ := c1.rs (Or.inr k2)
        rw [m] at rs1 q ⊢
        rw [t2] at rs2
        rw [show hashS (cT 15) = 3045982 from by decide]
        rw [show mdI (wN (cT 15)) = 1 from rfl] at q
        show Rn r 220 135 [some (vR (some rd)), some (vR (some a)), some (vI (-1))] [] h1 Q
        rw [sX1_made_135, sX1_made_136, c1.he, sX1_made_139 (by omega) (by omega), st_equals rs1 rs2, if_pos rfl, Kt_v, sX1_made_142, if_neg (by decide), sX1_made_145, sX1_made_146, sX1_made_147, sX1_made_271, sX1_made_272]
        exact md_1 c1 q
      · obtain ⟨k2, t2⟩ := t.2.2.2.1 16 (by decide)
        obtain ⟨b2, rs2, _⟩ := c1.rs (Or.inr k2)
        rw [m] at rs1 q ⊢
        rw [t2] at rs2
        rw [show hashS (cT 16) = 110339814 from by decide]
        rw [show mdI (wN (cT 16)) = 2 from rfl] at q
        show Rn r 220 150 [some (vR (some rd)), some (vR (some a)), some (vI (-1))] [] h1 Q
        rw [sX1_made_150, sX1_made_151, c1.he, sX1_made_154 (by omega) (by omega), st_equals rs1 rs2, if_pos rfl, Kt_v, sX1_made_157, if_neg (by decide), sX1_made_160, sX1_made_161, sX1_made_162, sX1_made_271, sX1_made_272]
        exact md_2 c1 q
      · obtain ⟨k2, t2⟩ := t.2.2.2.1 17 (by decide)
        obtain ⟨b2, rs2, _⟩ := c1.rs (Or.inr k2)
        rw [m] at rs1 q ⊢
        rw [t2] at rs2
        rw [show hashS (cT 17) = 113762 from by decide]
        rw [show mdI (wN (cT 17)) = 3 from rfl] at q
        show Rn r 220 165 [some (vR (some rd)), some (vR (some a)), some (vI (-1))] [] h1 Q
        rw [sX1_made_165, sX1_made_166, c1.he, sX1_made_169 (by omega) (by omega), st_equals rs1 rs2, if_pos rfl, Kt_v, sX1_made_172, if_neg (by decide), sX1_made_175, sX1_made_176, sX1_made_177, sX1_made_271, sX1_made_272]
        exact md_3 c1 q
      · obtain ⟨k2, t2⟩ := t.2.2.2.1 18 (by decide)
        obtain ⟨b2, rs2, _⟩ := c1.rs (Or.inr k2)
        rw [m] at rs1 q ⊢
        rw [t2] at rs2
        rw [show hashS (cT 18) = 3357 from by decide]
        rw [show mdI (wN (cT 18)) = 4 from rfl] at q
        show Rn r 220 180 [some (vR (some rd)), some (vR (some a)), some (vI (-1))] [] h1 Q
        rw [sX1_made_180, sX1_made_181, c1.he, sX1_made_184 (by omega) (by omega), st_equals rs1 rs2, if_pos rfl, Kt_v, sX1_made_187, if_neg (by decide), sX1_made_190, sX1_made_191, sX1_made_192, sX1_made_271, sX1_made_272]
        exact md_4 c1 q
      · obtain ⟨k2, t2⟩ := t.2.2.2.1 19 (by decide)
        obtain ⟨b2, rs2, _⟩ := c1.rs (Or.inr k2)
        rw [m] at rs1 q ⊢
        rw [t2] at rs2
        rw [show hashS (cT 19) = 113101617 from by decide]
        rw [show mdI (wN (cT 19)) = 5 from rfl] at q
        show Rn r 220 195 [some (vR (some rd)), some (vR (some a)), some (vI (-1))] [] h1 Q
        rw [sX1_made_195, sX1_made_196, c1.he, sX1_made_199 (by omega) (by omega), st_equals rs1 rs2, if_pos rfl, Kt_v, sX1_made_202, if_neg (by decide), sX1_made_205, sX1_made_206, sX1_made_207, sX1_made_271, sX1_made_272]
        exact md_5 c1 q
      · obtain ⟨k2, t2⟩ := t.2.2.2.1 20 (by decide)
        obtain ⟨b2, rs2, _⟩ := c1.rs (Or.inr k2)
        rw [m] at rs1 q ⊢
        rw [t2] at rs2
        rw [show hashS (cT 20) = 3327652 from by decide]
        rw [show mdI (wN (cT 20)) = 6 from rfl] at q
        show Rn r 220 210 [some (vR (some rd)), some (vR (some a)), some (vI (-1))] [] h1 Q
        rw [sX1_made_210, sX1_made_211, c1.he, sX1_made_214 (by omega) (by omega), st_equals rs1 rs2, if_pos rfl, Kt_v, sX1_made_217, if_neg (by decide), sX1_made_220, sX1_made_222, sX1_made_223, sX1_made_271, sX1_made_272]
        exact md_6 c1 q
      · obtain ⟨k2, t2⟩ := t.2.2.2.1 21 (by decide)
        obtain ⟨b2, rs2, _⟩ := c1.rs (Or.inr k2)
        rw [m] at rs1 q ⊢
        rw [t2] at rs2
        rw [show hashS (cT 21) = 94001407 from by decide]
        rw [show mdI (wN (cT 21)) = 7 from rfl] at q
        show Rn r 220 226 [some (vR (some rd)), some (vR (some a)), some (vI (-1))] [] h1 Q
        rw [sX1_made_226, sX1_made_227, c1.he, sX1_made_230 (by omega) (by omega), st_equals rs1 rs2, if_pos rfl, Kt_v, sX1_made_233, if_neg (by decide), sX1_made_236, sX1_made_238, sX1_made_239, sX1_made_271, sX1_made_272]
        exact md_7 c1 q
      · obtain ⟨k2, t2⟩ := t.2.2.2.1 22 (by decide)
        obtain ⟨b2, rs2, _⟩ := c1.rs (Or.inr k2)
        rw [m] at rs1 q ⊢
        rw [t2] at rs2
        rw [show hashS (cT 22) = (-934396624) from by decide]
        rw [show mdI (wN (cT 22)) = 8 from rfl] at q
        show Rn r 220 242 [some (vR (some rd)), some (vR (some a)), some (vI (-1))] [] h1 Q
        rw [sX1_made_242, sX1_made_243, c1.he, sX1_made_246 (by omega) (by omega), st_equals rs1 rs2, if_pos rfl, Kt_v, sX1_made_249, if_neg (by decide), sX1_made_252, sX1_made_254, sX1_made_255, sX1_made_271, sX1_made_272]
        exact md_8 c1 q
      · obtain ⟨k2, t2⟩ := t.2.2.2.1 23 (by decide)
        obtain ⟨b2, rs2, _⟩ := c1.rs (Or.inr k2)
        rw [m] at rs1 q ⊢
        rw [t2] at rs2
        rw [show hashS (cT 23) = 115131 from by decide]
        rw [show mdI (wN (cT 23)) = 9 from rfl] at q
        show Rn r 220 258 [some (vR (some rd)), some (vR (some a)), some (vI (-1))] [] h1 Q
        rw [sX1_made_258, sX1_made_259, c1.he, sX1_made_262 (by omega) (by omega), st_equals rs1 rs2, if_pos rfl, Kt_v, sX1_made_265, if_neg (by decide), sX1_made_268, sX1_made_270, sX1_made_271, sX1_made_272]
        exact md_9 c1 q
      · rw [m] at q ⊢
        rw [show hashS [114, 117, 110] = 113291 from by decide]
        rw [show mdI (wN [114, 117, 110]) = 10 from rfl] at q
        show Rn r 220 271 [some (vR (some rd)), some (vR (some a)), some (vI (-1))] [] h1 Q
        rw [sX1_made_271, sX1_made_272]
        exact md_10 c1 q
end MDS
