/-! BOTH, 4: the law's loop; written by a small program, one text for the twelve calls *-/
section LAW
variable {x m sc len N0 S0 r : Nat} {sv : Nat → Int32} {t : Int} {v : vT} {h : am_H} {Q : am_O → am_H → Prop}
theorem JI.kx (j : JI x m sc len sv N0 S0 t h v) : hK h x = 1 := by
  obtain ⟨rd, tp, wr, wk, C, R, A, T, p0, g, w, S, U, U1, c, ax, _⟩ := j
  exact c.kk ax.1.1 (by decide)
theorem JI.scr (j : JI x m sc len sv N0 S0 t h v) : SCs h sc len sv := by
  obtain ⟨rd, tp, wr, wk, C, R, A, T, p0, g, w, S, U, U1, c, ax, tw, hw, qv, nk, wb, s, b⟩ := j
  exact s.cr c
/-- where the script is read -/
theorem sc_b (s : SCs h sc len sv) (t0 : 0 ≤ t) (hl : len ≤ 384) (h6 : 6 * t + 6 ≤ len) : (40 ≤ hK h sc ∧ hK h sc ≤ 41) ∧ ¬ (iI (6 * t) < 0 ∨ hL h sc ≤ (iI (6 * t)).toNatClampNeg) ∧ ¬ (iI (6 * t) + 1 < 0 ∨ hL h sc ≤ (iI (6 * t) + 1).toNatClampNeg) ∧ ¬ (iI (6 * t) + 2 < 0 ∨ hL h sc ≤ (iI (6 * t) + 2).toNatClampNeg) ∧ ¬ (iI (6 * t) + 3 < 0 ∨ hL h sc ≤ (iI (6 * t) + 3).toNatClampNeg) ∧ ¬ (iI (6 * t) + 4 < 0 ∨ hL h sc ≤ (iI (6 * t) + 4).toNatClampNeg) ∧ ¬ (iI (6 * t) + 5 < 0 ∨ hL h sc ≤ (iI (6 * t) + 5).toNatClampNeg) := by
  obtain ⟨s1, s2, s3⟩ := s
  rw [s1, s2, i_1, i_2, i_3, i_4, i_5, iI_add, iI_add, iI_add, iI_add, iI_add]
  exact ⟨by omega, iI_bd (by omega) (by omega) (by omega), iI_bd (by omega) (by omega) (by omega), iI_bd (by omega) (by omega) (by omega), iI_bd (by omega) (by omega) (by omega), iI_bd (by omega) (by omega) (by omega), iI_bd (by omega) (by omega) (by omega)⟩
theorem law_0 (hr : 9 ≤ r) (t0 : 0 ≤ t) (t64 : t < 64) (hl : len ≤ 384) (h6 : 6 * t + 6 ≤ len) (j : JI x m sc len sv N0 S0 t h v) (q : ∀ h' v', JI x m sc len sv N0 S0 (t + 1) h' v' → Rn (r + 1) 0 472 [some (vR (some sc)), some (vR (some x)), some (vR (some m)), some (vI (iI (6 * t)))] [] h' Q) : Rn (r + 1) 0 96 [some (vR (some sc)), some (vR (some x)), some (vR (some m)), some (vI (iI (6 * t)))] [] h Q := by
  have kx := j.kx
  have s := j.scr
  obtain ⟨⟨b40, b41⟩, b0, b1, b2, b3, b4, b5⟩ := sc_b s t0 hl h6
  have s3 := s.2.2
  simp (disch := first | assumption | decide) only [sL_law_96, sL_law_97, sL_law_98, sL_law_99, sL_law_100, sL_law_101, sL_law_102, sL_law_103, sL_law_104, sL_law_105, sL_law_106, sL_law_107, sL_law_108, sL_law_109, sL_law_110, sL_law_111, sL_law_112, sL_law_113, sL_law_114, sL_law_115, sL_law_116, sL_law_117, sL_law_118, sL_law_119, sL_law_120, sL_law_121, s3]
  rw [sL_law_122 kx]
  refine j_feed j (fun a h1 mid => ?_)
  obtain ⟨s', km, k2⟩ := mid
  obtain ⟨⟨d40, d41⟩, d0, d1, d2, d3, d4, d5⟩ := sc_b s' t0 hl h6
  have s3' := s'.2.2
  rw [Kt_v]
  simp (disch := first | assumption | decide) only [sL_law_125, sL_law_126, sL_law_127, sL_law_128, sL_law_129, sL_law_130, sL_law_131, sL_law_132, sL_law_133, sL_law_134, sL_law_135, sL_law_136, sL_law_137, sL_law_138, sL_law_139, sL_law_140, sL_law_141, sL_law_142, sL_law_143, sL_law_144, sL_law_145, sL_law_146, sL_law_147, sL_law_148, sL_law_149, sL_law_150, s3']
  rw [sL_law_151 km]
  refine k2 _ (fun h2 v2 j2 => ?_)
  rw [Kt_v, sL_law_154, if_pos rfl]
  exact q h2 v2 j2
theorem law_1 (hr : 9 ≤ r) (t0 : 0 ≤ t) (t64 : t < 64) (hl : len ≤ 384) (h6 : 6 * t + 6 ≤ len) (j : JI x m sc len sv N0 S0 t h v) (q : ∀ h' v', JI x m sc len sv N0 S0 (t + 1) h' v' → Rn (r + 1) 0 472 [some (vR (some sc)), some (vR (some x)), some (vR (some m)), some (vI (iI (6 * t)))] [] h' Q) : Rn (r + 1) 0 159 [some (vR (some sc)), some (vR (some x)), some (vR (some m)), some (vI (iI (6 * t)))] [] h Q := by
  have kx := j.kx
  have s := j.scr
  obtain ⟨⟨b40, b41⟩, b0, b1, b2, b3, b4, b5⟩ := sc_b s t0 hl h6
  have s3 := s.2.2
  simp (disch := first | assumption | decide) only [sL_law_159, sL_law_160, sL_law_161, sL_law_162, sL_law_163, sL_law_164, s3]
  rw [sL_law_165 kx]
  refine j_cut j (fun a h1 mid => ?_)
  obtain ⟨s', km, k2⟩ := mid
  obtain ⟨⟨d40, d41⟩, d0, d1, d2, d3, d4, d5⟩ := sc_b s' t0 hl h6
  have s3' := s'.2.2
  rw [Kt_v]
  simp (disch := first | assumption | decide) only [sL_law_168, sL_law_169, sL_law_170, sL_law_171, sL_law_172, sL_law_173, s3']
  rw [sL_law_174 km]
  refine k2 _ (fun h2 v2 j2 => ?_)
  rw [Kt_v, sL_law_177, if_pos rfl]
  exact q h2 v2 j2
theorem law_2 (hr : 9 ≤ r) (t0 : 0 ≤ t) (t64 : t < 64) (hl : len ≤ 384) (h6 : 6 * t + 6 ≤ len) (j : JI x m sc len sv N0 S0 t h v) (q : ∀ h' v', JI x m sc len sv N0 S0 (t + 1) h' v' → Rn (r + 1) 0 472 [some (vR (some sc)), some (vR (some x)), some (vR (some m)), some (vI (iI (6 * t)))] [] h' Q) : Rn (r + 1) 0 182 [some (vR (some sc)), some (vR (some x)), some (vR (some m)), some (vI (iI (6 * t)))] [] h Q := by
  have kx := j.kx
  have s := j.scr
  obtain ⟨⟨b40, b41⟩, b0, b1, b2, b3, b4, b5⟩ := sc_b s t0 hl h6
  have s3 := s.2.2
  simp (disch := first | assumption | decide) only [sL_law_182, s3]
  rw [sL_law_183 kx]
  refine j_read hr (by omega) j (fun a h1 mid => ?_)
  obtain ⟨s', km, k2⟩ := mid
  obtain ⟨⟨d40, d41⟩, d0, d1, d2, d3, d4, d5⟩ := sc_b s' t0 hl h6
  have s3' := s'.2.2
  rw [Kt_v]
  simp (disch := first | assumption | decide) only [sL_law_186, s3']
  rw [sL_law_187 km]
  refine k2 _ (fun h2 v2 j2 => ?_)
  rw [Kt_v, sL_law_190, if_pos rfl]
  exact q h2 v2 j2
theorem law_3 (hr : 9 ≤ r) (t0 : 0 ≤ t) (t64 : t < 64) (hl : len ≤ 384) (h6 : 6 * t + 6 ≤ len) (j : JI x m sc len sv N0 S0 t h v) (q : ∀ h' v', JI x m sc len sv N0 S0 (t + 1) h' v' → Rn (r + 1) 0 472 [some (vR (some sc)), some (vR (some x)), some (vR (some m)), some (vI (iI (6 * t)))] [] h' Q) : Rn (r + 1) 0 195 [some (vR (some sc)), some (vR (some x)), some (vR (some m)), some (vI (iI (6 * t)))] [] h Q := by
  have kx := j.kx
  have s := j.scr
  obtain ⟨⟨b40, b41⟩, b0, b1, b2, b3, b4, b5⟩ := sc_b s t0 hl h6
  have s3 := s.2.2
  simp (disch := first | assumption | decide) only [sL_law_195, sL_law_196, sL_law_197, sL_law_198, sL_law_199, sL_law_200, s3]
  rw [sL_law_201 kx]
  refine j_told j (fun a mid => ?_)
  obtain ⟨s', km, k2⟩ := mid
  obtain ⟨⟨d40, d41⟩, d0, d1, d2, d3, d4, d5⟩ := sc_b s' t0 hl h6
  have s3' := s'.2.2
  rw [Kt_v]
  simp (disch := first | assumption | decide) only [sL_law_204, sL_law_205, sL_law_206, sL_law_207, sL_law_208, sL_law_209, s3']
  rw [sL_law_210 km]
  refine k2 _ (fun h2 v2 j2 => ?_)
  rw [Kt_v, sL_law_213, if_pos rfl]
  exact q h2 v2 j2
theorem law_4 (hr : 9 ≤ r) (t0 : 0 ≤ t) (t64 : t < 64) (hl : len ≤ 384) (h6 : 6 * t + 6 ≤ len) (j : JI x m sc len sv N0 S0 t h v) (q : ∀ h' v', JI x m sc len sv N0 S0 (t + 1) h' v' → Rn (r + 1) 0 472 [some (vR (some sc)), some (vR (some x)), some (vR (some m)), some (vI (iI (6 * t)))] [] h' Q) : Rn (r + 1) 0 218 [some (vR (some sc)), some (vR (some x)), some (vR (some m)), some (vI (iI (6 * t)))] [] h Q := by
  have kx := j.kx
  have s := j.scr
  obtain ⟨⟨b40, b41⟩, b0, b1, b2, b3, b4, b5⟩ := sc_b s t0 hl h6
  have s3 := s.2.2
  simp (disch := first | assumption | decide) only [sL_law_218, sL_law_219, sL_law_220, sL_law_221, sL_law_222, sL_law_223, sL_law_224, sL_law_225, sL_law_226, sL_law_227, sL_law_228, s3]
  rw [sL_law_229 kx]
  refine j_mist j (fun a mid => ?_)
  obtain ⟨s', km, k2⟩ := mid
  obtain ⟨⟨d40, d41⟩, d0, d1, d2, d3, d4, d5⟩ := sc_b s' t0 hl h6
  have s3' := s'.2.2
  rw [Kt_v]
  simp (disch := first | assumption | decide) only [sL_law_232, sL_law_233, sL_law_234, sL_law_235, sL_law_236, sL_law_237, sL_law_238, sL_law_239, sL_law_240, sL_law_241, sL_law_242, s3']
  rw [sL_law_243 km]
  refine k2 _ (fun h2 v2 j2 => ?_)
  rw [Kt_v, sL_law_246, if_pos rfl]
  exact q h2 v2 j2
theorem law_5 (hr : 9 ≤ r) (t0 : 0 ≤ t) (t64 : t < 64) (hl : len ≤ 384) (h6 : 6 * t + 6 ≤ len) (j : JI x m sc len sv N0 S0 t h v) (q : ∀ h' v', JI x m sc len sv N0 S0 (t + 1) h' v' → Rn (r + 1) 0 472 [some (vR (some sc)), some (vR (some x)), some (vR (some m)), some (vI (iI (6 * t)))] [] h' Q) : Rn (r + 1) 0 251 [some (vR (some sc)), some (vR (some x)), some (vR (some m)), some (vI (iI (6 * t)))] [] h Q := by
  have kx := j.kx
  have s := j.scr
  obtain ⟨⟨b40, b41⟩, b0, b1, b2, b3, b4, b5⟩ := sc_b s t0 hl h6
  have s3 := s.2.2
  simp (disch := first | assumption | decide) only [sL_law_251, sL_law_252, sL_law_253, sL_law_254, sL_law_255, sL_law_256, sL_law_257, sL_law_258, sL_law_259, sL_law_260, sL_law_261, s3]
  rw [sL_law_262 kx]
  refine j_kind j (fun a mid => ?_)
  obtain ⟨s', km, k2⟩ := mid
  obtain ⟨⟨d40, d41⟩, d0, d1, d2, d3, d4, d5⟩ := sc_b s' t0 hl h6
  have s3' := s'.2.2
  rw [Kt_v]
  simp (disch := first | assumption | decide) only [sL_law_265, sL_law_266, sL_law_267, sL_law_268, sL_law_269, sL_law_270, sL_law_271, sL_law_272, sL_law_273, sL_law_274, sL_law_275, s3']
  rw [sL_law_276 km]
  refine k2 _ (fun h2 v2 j2 => ?_)
  rw [Kt_v, sL_law_279, if_pos rfl]
  exact q h2 v2 j2
theorem law_6 (hr : 9 ≤ r) (t0 : 0 ≤ t) (t64 : t < 64) (hl : len ≤ 384) (h6 : 6 * t + 6 ≤ len) (j : JI x m sc len sv N0 S0 t h v) (q : ∀ h' v', JI x m sc len sv N0 S0 (t + 1) h' v' → Rn (r + 1) 0 472 [some (vR (some sc)), some (vR (some x)), some (vR (some m)), some (vI (iI (6 * t)))] [] h' Q) : Rn (r + 1) 0 284 [some (vR (some sc)), some (vR (some x)), some (vR (some m)), some (vI (iI (6 * t)))] [] h Q := by
  have kx := j.kx
  have s := j.scr
  obtain ⟨⟨b40, b41⟩, b0, b1, b2, b3, b4, b5⟩ := sc_b s t0 hl h6
  have s3 := s.2.2
  simp (disch := first | assumption | decide) only [sL_law_284, sL_law_285, sL_law_286, sL_law_287, sL_law_288, sL_law_289, sL_law_290, sL_law_291, sL_law_292, sL_law_293, sL_law_294, s3]
  rw [sL_law_295 kx]
  refine j_below j (fun a mid => ?_)
  obtain ⟨s', km, k2⟩ := mid
  obtain ⟨⟨d40, d41⟩, d0, d1, d2, d3, d4, d5⟩ := sc_b s' t0 hl h6
  have s3' := s'.2.2
  rw [Kt_v]
  simp (disch := first | assumption | decide) only [sL_law_298, sL_law_299, sL_law_300, sL_law_301, sL_law_302, sL_law_303, sL_law_304, sL_law_305, sL_law_306, sL_law_307, sL_law_308, s3']
  rw [sL_law_309 km]
  refine k2 _ (fun h2 v2 j2 => ?_)
  rw [Kt_v, sL_law_312, if_pos rfl]
  exact q h2 v2 j2
theorem law_7 (hr : 9 ≤ r) (t0 : 0 ≤ t) (t64 : t < 64) (hl : len ≤ 384) (h6 : 6 * t + 6 ≤ len) (j : JI x m sc len sv N0 S0 t h v) (q : ∀ h' v', JI x m sc len sv N0 S0 (t + 1) h' v' → Rn (r + 1) 0 472 [some (vR (some sc)), some (vR (some x)), some (vR (some m)), some (vI (iI (6 * t)))] [] h' Q) : Rn (r + 1) 0 317 [some (vR (some sc)), some (vR (some x)), some (vR (some m)), some (vI (iI (6 * t)))] [] h Q := by
  have kx := j.kx
  have s := j.scr
  obtain ⟨⟨b40, b41⟩, b0, b1, b2, b3, b4, b5⟩ := sc_b s t0 hl h6
  have s3 := s.2.2
  simp (disch := first | assumption | decide) only [sL_law_317, sL_law_318, sL_law_319, sL_law_320, sL_law_321, sL_law_322, sL_law_323, sL_law_324, sL_law_325, sL_law_326, sL_law_327, s3]
  rw [sL_law_328 kx]
  refine j_meth j (fun a mid => ?_)
  obtain ⟨s', km, k2⟩ := mid
  obtain ⟨⟨d40, d41⟩, d0, d1, d2, d3, d4, d5⟩ := sc_b s' t0 hl h6
  have s3' := s'.2.2
  rw [Kt_v]
  simp (disch := first | assumption | decide) only [sL_law_331, sL_law_332, sL_law_333, sL_law_334, sL_law_335, sL_law_336, sL_law_337, sL_law_338, sL_law_339, sL_law_340, sL_law_341, s3']
  rw [sL_law_342 km]
  refine k2 _ (fun h2 v2 j2 => ?_)
  rw [Kt_v, sL_law_345, if_pos rfl]
  exact q h2 v2 j2
theorem law_8 (hr : 9 ≤ r) (t0 : 0 ≤ t) (t64 : t < 64) (hl : len ≤ 384) (h6 : 6 * t + 6 ≤ len) (j : JI x m sc len sv N0 S0 t h v) (q : ∀ h' v', JI x m sc len sv N0 S0 (t + 1) h' v' → Rn (r + 1) 0 472 [some (vR (some sc)), some (vR (some x)), some (vR (some m)), some (vI (iI (6 * t)))] [] h' Q) : Rn (r + 1) 0 350 [some (vR (some sc)), some (vR (some x)), some (vR (some m)), some (vI (iI (6 * t)))] [] h Q := by
  have kx := j.kx
  have s := j.scr
  obtain ⟨⟨b40, b41⟩, b0, b1, b2, b3, b4, b5⟩ := sc_b s t0 hl h6
  have s3 := s.2.2
  simp (disch := first | assumption | decide) only [sL_law_350, sL_law_351, sL_law_352, sL_law_353, sL_law_354, sL_law_355, sL_law_356, sL_law_357, sL_law_358, sL_law_359, sL_law_360, s3]
  rw [sL_law_361 kx]
  refine j_stmt j (fun a mid => ?_)
  obtain ⟨s', km, k2⟩ := mid
  obtain ⟨⟨d40, d41⟩, d0, d1, d2, d3, d4, d5⟩ := sc_b s' t0 hl h6
  have s3' := s'.2.2
  rw [Kt_v]
  simp (disch := first | assumption | decide) only [sL_law_364, sL_law_365, sL_law_366, sL_law_367, sL_law_368, sL_law_369, sL_law_370, sL_law_371, sL_law_372, sL_law_373, sL_law_374, s3']
  rw [sL_law_375 km]
  refine k2 _ (fun h2 v2 j2 => ?_)
  rw [Kt_v, sL_law_378, if_pos rfl]
  exact q h2 v2 j2
theorem law_9 (hr : 9 ≤ r) (t0 : 0 ≤ t) (t64 : t < 64) (hl : len ≤ 384) (h6 : 6 * t + 6 ≤ len) (j : JI x m sc len sv N0 S0 t h v) (q : ∀ h' v', JI x m sc len sv N0 S0 (t + 1) h' v' → Rn (r + 1) 0 472 [some (vR (some sc)), some (vR (some x)), some (vR (some m)), some (vI (iI (6 * t)))] [] h' Q) : Rn (r + 1) 0 383 [some (vR (some sc)), some (vR (some x)), some (vR (some m)), some (vI (iI (6 * t)))] [] h Q := by
  have kx := j.kx
  have s := j.scr
  obtain ⟨⟨b40, b41⟩, b0, b1, b2, b3, b4, b5⟩ := sc_b s t0 hl h6
  have s3 := s.2.2
  simp (disch := first | assumption | decide) only [sL_law_383, s3]
  rw [sL_law_384 kx]
  refine j_find j (fun a h1 mid => ?_)
  obtain ⟨s', km, k2⟩ := mid
  obtain ⟨⟨d40, d41⟩, d0, d1, d2, d3, d4, d5⟩ := sc_b s' t0 hl h6
  have s3' := s'.2.2
  rw [Kt_v]
  simp (disch := first | assumption | decide) only [sL_law_387, s3']
  rw [sL_law_388 km]
  refine k2 _ (fun h2 v2 j2 => ?_)
  rw [Kt_v, sL_law_391, if_pos rfl]
  exact q h2 v2 j2
theorem law_10 (hr : 9 ≤ r) (t0 : 0 ≤ t) (t64 : t < 64) (hl : len ≤ 384) (h6 : 6 * t + 6 ≤ len) (j : JI x m sc len sv N0 S0 t h v) (q : ∀ h' v', JI x m sc len sv N0 S0 (t + 1) h' v' → Rn (r + 1) 0 472 [some (vR (some sc)), some (vR (some x)), some (vR (some m)), some (vI (iI (6 * t)))] [] h' Q) : Rn (r + 1) 0 396 [some (vR (some sc)), some (vR (some x)), some (vR (some m)), some (vI (iI (6 * t)))] [] h Q := by
  have kx := j.kx
  have s := j.scr
  obtain ⟨⟨b40, b41⟩, b0, b1, b2, b3, b4, b5⟩ := sc_b s t0 hl h6
  have s3 := s.2.2
  simp (disch := first | assumption | decide) only [sL_law_396, sL_law_397, sL_law_398, sL_law_399, sL_law_400, sL_law_401, sL_law_402, sL_law_403, sL_law_404, sL_law_405, sL_law_406, sL_law_407, sL_law_408, sL_law_410, sL_law_411, sL_law_412, sL_law_413, sL_law_414, sL_law_415, sL_law_416, sL_law_417, sL_law_420, sL_law_421, s3]
  rw [sL_law_422 kx]
  refine j_walk (by omega) j (fun a h1 mid => ?_)
  obtain ⟨s', km, k2⟩ := mid
  obtain ⟨⟨d40, d41⟩, d0, d1, d2, d3, d4, d5⟩ := sc_b s' t0 hl h6
  have s3' := s'.2.2
  rw [Kt_v]
  simp (disch := first | assumption | decide) only [sL_law_425, sL_law_426, sL_law_427, sL_law_428, sL_law_429, sL_law_430, sL_law_431, sL_law_432, sL_law_433, sL_law_434, sL_law_435, sL_law_436, sL_law_437, sL_law_439, sL_law_440, sL_law_441, sL_law_442, sL_law_443, sL_law_444, sL_law_445, sL_law_446, sL_law_449, sL_law_450, s3']
  rw [sL_law_451 km]
  refine k2 _ (fun h2 v2 j2 => ?_)
  rw [Kt_v, sL_law_454, if_pos rfl]
  exact q h2 v2 j2
theorem law_11 (hr : 9 ≤ r) (t0 : 0 ≤ t) (t64 : t < 64) (hl : len ≤ 384) (h6 : 6 * t + 6 ≤ len) (j : JI x m sc len sv N0 S0 t h v) (q : ∀ h' v', JI x m sc len sv N0 S0 (t + 1) h' v' → Rn (r + 1) 0 472 [some (vR (some sc)), some (vR (some x)), some (vR (some m)), some (vI (iI (6 * t)))] [] h' Q) : Rn (r + 1) 0 459 [some (vR (some sc)), some (vR (some x)), some (vR (some m)), some (vI (iI (6 * t)))] [] h Q := by
  have kx := j.kx
  have s := j.scr
  obtain ⟨⟨b40, b41⟩, b0, b1, b2, b3, b4, b5⟩ := sc_b s t0 hl h6
  have s3 := s.2.2
  simp (disch := first | assumption | decide) only [sL_law_459, s3]
  rw [sL_law_460 kx]
  refine j_steps j (fun a mid => ?_)
  obtain ⟨s', km, k2⟩ := mid
  obtain ⟨⟨d40, d41⟩, d0, d1, d2, d3, d4, d5⟩ := sc_b s' t0 hl h6
  have s3' := s'.2.2
  rw [Kt_v]
  simp (disch := first | assumption | decide) only [sL_law_463, s3']
  rw [sL_law_464 km]
  refine k2 _ (fun h2 v2 j2 => ?_)
  rw [Kt_v, sL_law_467, if_pos rfl]
  exact q h2 v2 j2
theorem law_loop (hr : 9 ≤ r) (hl : len ≤ 384) (q : ∀ h' v' t', t' ≤ 64 → JI x m sc len sv N0 S0 t' h' v' → Q (Sum.inl (some (vI 1))) h') : ∀ (d : Nat) (t : Int) (h : am_H) (v : vT), 64 - t ≤ d → 0 ≤ t → t ≤ 64 → JI x m sc len sv N0 S0 t h v → Rn (r + 1) 0 18 [some (vR (some sc)), some (vR (some x)), some (vR (some m)), some (vI (iI (6 * t)))] [] h Q := by
  intro d
  induction d with
  | zero =>
    intro t h v hd t0 t1 j
    have s := j.scr
    rw [sL_law_18, sL_law_19, sL_law_20 (by rw [s.1]; decide) (by rw [s.1]; decide), s.2.1, sL_law_21, sL_law_23, show nI len = iI (len : Int) from rfl, i_6, iI_sub, sL_law_24, if_pos (by rw [iI_lt (by omega) (by omega) (by omega) (by omega)]; omega), sL_law_478, sL_law_479 rfl]
    exact q h v t t1 j
  | succ d ih =>
    intro t h v hd t0 t1 j
    have s := j.scr
    rw [sL_law_18, sL_law_19, sL_law_20 (by rw [s.1]; decide) (by rw [s.1]; decide), s.2.1, sL_law_21, sL_law_23, show nI len = iI (len : Int) from rfl, i_6, iI_sub, sL_law_24]
    by_cases z : (len : Int) - 6 < 6 * t
    · rw [if_pos (by rw [iI_lt (by omega) (by omega) (by omega) (by omega)]; exact z), sL_law_478, sL_law_479 rfl]
      exact q h v t t1 j
    · have h6 : 6 * t + 6 ≤ len := by omega
      have t64 : t < 64 := by omega
      obtain ⟨⟨b40, b41⟩, b0, _⟩ := sc_b s t0 hl h6
      have nx : ∀ h' v', JI x m sc len sv N0 S0 (t + 1) h' v' → Rn (r + 1) 0 472 [some (vR (some sc)), some (vR (some x)), some (vR (some m)), some (vI (iI (6 * t)))] [] h' Q := fun h' v' j' => by
        rw [sL_law_472, sL_law_475, i_6, iI_add, show 6 * t + 6 = 6 * (t + 1) by omega]
        exact ih (t + 1) h' v' (by omega) (by omega) (by omega) j'
      rw [if_neg (by rw [iI_lt (by omega) (by omega) (by omega) (by omega)]; exact z), sL_law_27, sL_law_28, sL_law_29 b40 b41 b0, sL_law_30, sL_law_32, sL_law_33]
      generalize hI h sc (iI (6 * t)).toNatClampNeg &&& 15 = y
      by_cases y0 : y = 0
      · rw [if_pos y0]
        exact law_0 hr t0 t64 hl h6 j nx
      by_cases y1 : y = 1
      · rw [if_neg y0, if_pos y1]
        exact law_1 hr t0 t64 hl h6 j nx
      by_cases y2 : y = 2
      · rw [if_neg y0, if_neg y1, if_pos y2]
        exact law_2 hr t0 t64 hl h6 j nx
      by_cases y3 : y = 3
      · rw [if_neg y0, if_neg y1, if_neg y2, if_pos y3]
        exact law_3 hr t0 t64 hl h6 j nx
      by_cases y4 : y = 4
      · rw [if_neg y0, if_neg y1, if_neg y2, if_neg y3, if_pos y4]
        exact law_4 hr t0 t64 hl h6 j nx
      by_cases y5 : y = 5
      · rw [if_neg y0, if_neg y1, if_neg y2, if_neg y3, if_neg y4, if_pos y5]
        exact law_5 hr t0 t64 hl h6 j nx
      by_cases y6 : y = 6
      · rw [if_neg y0, if_neg y1, if_neg y2, if_neg y3, if_neg y4, if_neg y5, if_pos y6]
        exact law_6 hr t0 t64 hl h6 j nx
      by_cases y7 : y = 7
      · rw [if_neg y0, if_neg y1, if_neg y2, if_neg y3, if_neg y4, if_neg y5, if_neg y6, if_pos y7]
        exact law_7 hr t0 t64 hl h6 j nx
      by_cases y8 : y = 8
      · rw [if_neg y0, if_neg y1, if_neg y2, if_neg y3, if_neg y4, if_neg y5, if_neg y6, if_neg y7, if_pos y8]
        exact law_8 hr t0 t64 hl h6 j nx
      by_cases y9 : y = 9
      · rw [if_neg y0, if_neg y1, if_neg y2, if_neg y3, if_neg y4, if_neg y5, if_neg y6, if_neg y7, if_neg y8, if_pos y9]
        exact law_9 hr t0 t64 hl h6 j nx
      by_cases y10 : y = 10
      · rw [if_neg y0, if_neg y1, if_neg y2, if_neg y3, if_neg y4, if_neg y5, if_neg y6, if_neg y7, if_neg y8, if_neg y9, if_pos y10]
        exact law_10 hr t0 t64 hl h6 j nx
      by_cases y11 : y = 11
      · rw [if_neg y0, if_neg y1, if_neg y2, if_neg y3, if_neg y4, if_neg y5, if_neg y6, if_neg y7, if_neg y8, if_neg y9, if_neg y10, if_pos y11]
        exact law_11 hr t0 t64 hl h6 j nx
      rw [if_neg y0, if_neg y1, if_neg y2, if_neg y3, if_neg y4, if_neg y5, if_neg y6, if_neg y7, if_neg y8, if_neg y9, if_neg y10, if_neg y11]
      exact nx h v (JI_mono j)
end LAW
