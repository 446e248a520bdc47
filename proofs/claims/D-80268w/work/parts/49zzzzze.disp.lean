/-! COMPONENT, 46: which statement is at hand *-/
section DSP
variable {r a : Nat} {h : am_H} {Q : am_O → am_H → Prop} {l0 l1 l2 l4 l5 l6 l7 l8 l9 l10 l11 l12 : Option am_V}
theorem dsp_30 (k : hK h a = 30) : Rn r 175 162 [l0, l1, l2, some (vR (some a)), l4, l5, l6, l7, l8, l9, l10, l11, l12] [] h Q ↔ Rn r 175 175 [l0, l1, l2, some (vR (some a)), some (vR (some a)), l5, l6, l7, l8, l9, l10, l11, l12] [] h Q := by
  rw [sX1_statement_162, sX1_statement_163 (by rw [k]; decide), sX1_statement_166, if_neg (by decide), sX1_statement_169, sX1_statement_170 (by rw [k]; decide), sX1_statement_173]
theorem dsp_31 (k : hK h a = 31) : Rn r 175 162 [l0, l1, l2, some (vR (some a)), l4, l5, l6, l7, l8, l9, l10, l11, l12] [] h Q ↔ Rn r 175 198 [l0, l1, l2, some (vR (some a)), l4, some (vR (some a)), l6, l7, l8, l9, l10, l11, l12] [] h Q := by
  rw [sX1_statement_162, sX1_statement_163_f (by rw [k]; decide) (by rw [k]; rfl), sX1_statement_166, if_pos rfl, sX1_statement_185, sX1_statement_186 (by rw [k]; decide), sX1_statement_189, if_neg (by decide), sX1_statement_192, sX1_statement_193 (by rw [k]; decide), sX1_statement_196]
theorem dsp_32 (k : hK h a = 32) : Rn r 175 162 [l0, l1, l2, some (vR (some a)), l4, l5, l6, l7, l8, l9, l10, l11, l12] [] h Q ↔ Rn r 175 221 [l0, l1, l2, some (vR (some a)), l4, l5, some (vR (some a)), l7, l8, l9, l10, l11, l12] [] h Q := by
  rw [sX1_statement_162, sX1_statement_163_f (by rw [k]; decide) (by rw [k]; rfl), sX1_statement_166, if_pos rfl, sX1_statement_185, sX1_statement_186_f (by rw [k]; decide) (by rw [k]; rfl), sX1_statement_189, if_pos rfl, sX1_statement_208, sX1_statement_209 (by rw [k]; decide), sX1_statement_212, if_neg (by decide), sX1_statement_215, sX1_statement_216 (by rw [k]; decide), sX1_statement_219]
theorem dsp_33 (k : hK h a = 33) : Rn r 175 162 [l0, l1, l2, some (vR (some a)), l4, l5, l6, l7, l8, l9, l10, l11, l12] [] h Q ↔ Rn r 175 244 [l0, l1, l2, some (vR (some a)), l4, l5, l6, some (vR (some a)), l8, l9, l10, l11, l12] [] h Q := by
  rw [sX1_statement_162, sX1_statement_163_f (by rw [k]; decide) (by rw [k]; rfl), sX1_statement_166, if_pos rfl, sX1_statement_185, sX1_statement_186_f (by rw [k]; decide) (by rw [k]; rfl), sX1_statement_189, if_pos rfl, sX1_statement_208, sX1_statement_209_f (by rw [k]; decide) (by rw [k]; rfl), sX1_statement_212, if_pos rfl, sX1_statement_231, sX1_statement_232 (by rw [k]; decide), sX1_statement_235, if_neg (by decide), sX1_statement_238, sX1_statement_239 (by rw [k]; decide), sX1_statement_242]
theorem dsp_34 (k : hK h a = 34) : Rn r 175 162 [l0, l1, l2, some (vR (some a)), l4, l5, l6, l7, l8, l9, l10, l11, l12] [] h Q ↔ Rn r 175 294 [l0, l1, l2, some (vR (some a)), l4, l5, l6, l7, some (vR (some a)), l9, l10, l11, l12] [] h Q := by
  rw [sX1_statement_162, sX1_statement_163_f (by rw [k]; decide) (by rw [k]; rfl), sX1_statement_166, if_pos rfl, sX1_statement_185, sX1_statement_186_f (by rw [k]; decide) (by rw [k]; rfl), sX1_statement_189, if_pos rfl, sX1_statement_208, sX1_statement_209_f (by rw [k]; decide) (by rw [k]; rfl), sX1_statement_212, if_pos rfl, sX1_statement_231, sX1_statement_232_f (by rw [k]; decide) (by rw [k]; rfl), sX1_statement_235, if_pos rfl, sX1_statement_281, sX1_statement_282 (by rw [k]; decide), sX1_statement_285, if_neg (by decide), sX1_statement_288, sX1_statement_289 (by rw [k]; decide), sX1_statement_292]
theorem dsp_35 (k : hK h a = 35) : Rn r 175 162 [l0, l1, l2, some (vR (some a)), l4, l5, l6, l7, l8, l9, l10, l11, l12] [] h Q ↔ Rn r 175 338 [l0, l1, l2, some (vR (some a)), l4, l5, l6, l7, l8, some (vR (some a)), l10, l11, l12] [] h Q := by
  rw [sX1_statement_162, sX1_statement_163_f (by rw [k]; decide) (by rw [k]; rfl), sX1_statement_166, if_pos rfl, sX1_statement_185, sX1_statement_186_f (by rw [k]; decide) (by rw [k]; rfl), sX1_statement_189, if_pos rfl, sX1_statement_208, sX1_statement_209_f (by rw [k]; decide) (by rw [k]; rfl), sX1_statement_212, if_pos rfl, sX1_statement_231, sX1_statement_232_f (by rw [k]; decide) (by rw [k]; rfl), sX1_statement_235, if_pos rfl, sX1_statement_281, sX1_statement_282_f (by rw [k]; decide) (by rw [k]; rfl), sX1_statement_285, if_pos rfl, sX1_statement_325, sX1_statement_326 (by rw [k]; decide), sX1_statement_329, if_neg (by decide), sX1_statement_332, sX1_statement_333 (by rw [k]; decide), sX1_statement_336]
theorem dsp_36 (k : hK h a = 36) : Rn r 175 162 [l0, l1, l2, some (vR (some a)), l4, l5, l6, l7, l8, l9, l10, l11, l12] [] h Q ↔ Rn r 175 367 [l0, l1, l2, some (vR (some a)), l4, l5, l6, l7, l8, l9, some (vR (some a)), l11, l12] [] h Q := by
  rw [sX1_statement_162, sX1_statement_163_f (by rw [k]; decide) (by rw [k]; rfl), sX1_statement_166, if_pos rfl, sX1_statement_185, sX1_statement_186_f (by rw [k]; decide) (by rw [k]; rfl), sX1_statement_189, if_pos rfl, sX1_statement_208, sX1_statement_209_f (by rw [k]; decide) (by rw [k]; rfl), sX1_statement_212, if_pos rfl, sX1_statement_231, sX1_statement_232_f (by rw [k]; decide) (by rw [k]; rfl), sX1_statement_235, if_pos rfl, sX1_statement_281, sX1_statement_282_f (by rw [k]; decide) (by rw [k]; rfl), sX1_statement_285, if_pos rfl, sX1_statement_325, sX1_statement_326_f (by rw [k]; decide) (by rw [k]; rfl), sX1_statement_329, if_pos rfl, sX1_statement_354, sX1_statement_355 (by rw [k]; decide), sX1_statement_358, if_neg (by decide), sX1_statement_361, sX1_statement_362 (by rw [k]; decide), sX1_statement_365]
theorem dsp_37 (k : hK h a = 37) : Rn r 175 162 [l0, l1, l2, some (vR (some a)), l4, l5, l6, l7, l8, l9, l10, l11, l12] [] h Q ↔ Rn r 175 390 [l0, l1, l2, some (vR (some a)), l4, l5, l6, l7, l8, l9, l10, some (vR (some a)), l12] [] h Q := by
  rw [sX1_statement_162, sX1_statement_163_f (by rw [k]; decide) (by rw [k]; rfl), sX1_statement_166, if_pos rfl, sX1_statement_185, sX1_statement_186_f (by rw [k]; decide) (by rw [k]; rfl), sX1_statement_189, if_pos rfl, sX1_statement_208, sX1_statement_209_f (by rw [k]; decide) (by rw [k]; rfl), sX1_statement_212, if_pos rfl, sX1_statement_231, sX1_statement_232_f (by rw [k]; decide) (by rw [k]; rfl), sX1_statement_235, if_pos rfl, sX1_statement_281, sX1_statement_282_f (by rw [k]; decide) (by rw [k]; rfl), sX1_statement_285, if_pos rfl, sX1_statement_325, sX1_statement_326_f (by rw [k]; decide) (by rw [k]; rfl), sX1_statement_329, if_pos rfl, sX1_statement_354, sX1_statement_355_f (by rw [k]; decide) (by rw [k]; rfl), sX1_statement_358, if_pos rfl, sX1_statement_377, sX1_statement_378 (by rw [k]; decide), sX1_statement_381, if_neg (by decide), sX1_statement_384, sX1_statement_385 (by rw [k]; decide), sX1_statement_388]
end DSP
section SNX
variable {r a kd : Nat} {h : am_H} {R : Nat → Nat} {A Ah : Nat → Int → Nat} {T Th : Nat → Nat} {w s p0 : Int} {v vh : vT} {S Uh U : tSt} {o : Option Nat} {Q : am_O → am_H → Prop} {l2 l4 l5 l6 l7 l8 l9 l10 l11 l12 : Option am_V}
theorem am_kd (h1 : 30 ≤ kd) (h2 : kd ≤ 37) : kd ∉ [38] ∧ am_look kd [(30, 0), (31, 0), (32, 0), (33, 0), (34, 0), (35, 0), (36, 0), (37, 0)] = some 0 := by
  have : kd = 30 ∨ kd = 31 ∨ kd = 32 ∨ kd = 33 ∨ kd = 34 ∨ kd = 35 ∨ kd = 36 ∨ kd = 37 := by omega
  rcases this with e | e | e | e | e | e | e | e <;> rw [e] <;> exact ⟨by decide, rfl⟩
/-- the token behind the first word -/
theorem st_next (d1 : 1 ≤ S 55 0) (cr : CR h v) (md : MD R A T w s p0 v S U o) (cx : CX R w (S 56 (S 55 0 - 1)) Ah Th vh Uh A T v U 20 340) (ka : hK v.1 a = kd) (h1 : 30 ≤ kd) (h2 : kd ≤ 37)
    (q1 : tAdv S 51 0 ≠ -2 → ∀ h' v', CR h' v' → MD R A T w s p0 v' (tAdv S) U o → CX R w (S 56 (S 55 0 - 1)) Ah Th vh Uh A T v' U (20 + 20 * (tAdv S 47 0 - S 47 0)) (340 + 200 * (tAdv S 47 0 - S 47 0)) → Fw (Xq (R 0) (R 2)) v v' → (∀ j, hI v'.1 a j = hI v.1 a j ∧ hJ v'.1 a j = hJ v.1 a j ∧ hR v'.1 a j = hR v.1 a j) → hK v'.1 a = kd → Rn r 175 162 [some (vR (some (R 0))), some (vR o), l2, some (vR (some a)), l4, l5, l6, l7, l8, l9, l10, l11, l12] [] h' Q)
    (q2 : tAdv S 51 0 = -2 → ∀ h' v', CR h' v' → WX R Th vh v' S (20 - 2 * S 55 0) (tAdv S 49 0) → Q (Sum.inr (R 2)) h') :
    Rn r 175 133 [some (vR (some (R 0))), some (vR o), l2, some (vR (some a)), l4, l5, l6, l7, l8, l9, l10, l11, l12] [] h Q := by
  obtain ⟨g, ⟨hP, pr, qv, w0⟩, ⟨_, s52⟩, ar, hsA, e22, ch⟩ := md
  have kr := cr.kk g.1.w0.1 (by decide)
  have kah := cr.kk ka (by omega)
  have d8 := hP.1.2.2.2.2.2.2.2
  have k9 := g.k9
  have le := g.1.le
  have a47 := tAdv_47 g.1.2.1
  have kk := am_kd h1 h2
  rw [sX1_statement_133, sX1_statement_134_f (by rw [kah]; exact kk.1) (by rw [kah]; exact kk.2), sX1_statement_137, if_pos rfl, sX1_statement_158, sX1_statement_159 kr]
  refine t_next cr g.1 (fun z h' v' c' f t' n1 s0 s1 _ => ?_) (fun z h' v' c' wg => ?_)
  · have na0 : a ≠ R 0 := fun e => by have := g.1.w0.1; rw [← e, ka] at this; omega
    have na2 : a ≠ R 2 := fun e => by have := g.1.w0.2.1; rw [← e, ka] at this; omega
    have fa := fun j => f.ff (k := j) (hK_lt ka (by omega)) (fun y => by rcases y with y | y; exact na0 y.1; exact na2 y.1)
    rw [Kt_0]
    refine q1 z h' v' c' ⟨GI_r g (Xq_r f) t' a47.1 tAdv_55.1 tAdv_55.2.1, ⟨PI_adv hP, pr, qv, w0⟩, ⟨by rw [tAdv_55.1]; exact d1, by rw [tAdv_52]; exact s52⟩, AR_q f g ar, hsA, by rw [tAdv_55.1, tAdv_55.2.1]; exact e22, CH_t ch⟩ ⟨cx.1.q f k9 n1 s0 s1, cx.2⟩ f fa (f.kk ka (by omega))
  · rw [Kt_x]
    exact q2 z h' v' c' ((Wg_X (k := 1) g qv wg (by omega) (by omega) le).pre' cx.1 cx.2.2.1 (by omega) (by omega) rfl)
end SNX
