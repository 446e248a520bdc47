/-! COMPONENT, 123: thrown of a try *-/
section JT4
variable {R : Nat → Nat} {A : Nat → Int → Nat} {T : Nat → Nat} {w p0 s d cc : Int} {U : tSt} {c l g : Int → Int} {L0 X Z : List tMi} {v0 v v' : vT} {Nd N Bs : List Int} {r : Nat} {h : am_H} {Q : am_O → am_H → Prop} {l2 l3 l4 l5 : Option am_V}
/-- the fields of a try -/
theorem FS9 (gx : GX R A T w p0 v U) (hs : As w U s) (e : U 20 s = 9) : hK v.1 (A 2 s) = 36 ∧ hR v.1 (A 2 s) 8 = some (A 3 (U 27 s)) ∧ hR v.1 (A 2 s) 10 = optA (A 3) (U 29 s) ∧ (∃ l7, hK v.1 l7 = 4 ∧ hR v.1 (A 2 s) 7 = some l7 ∧ vLs v l7 = clN U w A s (U 30 s).toNat) ∧ ∃ l9, hK v.1 l9 = 4 ∧ hR v.1 (A 2 s) 9 = some l9 ∧ vLs v l9 = rowL (A 4) (4 * s) (U 33 s) := by
  obtain ⟨_, _, _, _, _, _, _, f9, _⟩ := gx.fs hs
  obtain ⟨k1, k2, k3, l5, l6, l7, l9, _, ⟨_, _, k7, k9⟩, ⟨_, _, r7, r9⟩, _, _, _, v7, v9⟩ := f9 e
  refine ⟨k1, k2, k3, ⟨l7, k7, r7, ?_⟩, l9, k9, r9, v9⟩
  rw [v7]
  unfold clL
  rw [if_pos (stL_in.mpr ⟨hs, decide_eq_true e⟩)]
theorem tFor_sOr {f : Int → Int} : ∀ (n : Nat) (i x : Int), 0 ≤ x → tFor (fun k a => sOr a (f k)) n i x = sOr x (tFor (fun k a => sOr a (f k)) n i 0) := by
  intro n
  induction n with
  | zero =>
    intro i x hx
    show x = sOr x 0
    unfold sOr
    rw [show (0 : Int).toNat = 0 from rfl, Nat.or_zero]
    omega
  | succ n ih =>
    intro i x hx
    rw [tFor, tFor, ih (i + 1) (sOr x (f i)) (by unfold sOr; omega), ih (i + 1) (sOr 0 (f i)) (by unfold sOr; omega)]
    have z : sOr x 0 = x := by
      unfold sOr
      rw [show (0 : Int).toNat = 0 from rfl, Nat.or_zero]
      omega
    rw [sOr_assoc, sOr_assoc, ← sOr_assoc (a := x) (b := 0), z]
theorem clN_get {n : Nat} {k : Int} (h0 : 0 ≤ k) (h1 : k < n) : (clN U w A s n).getD k.toNat none = optA (A 1) (mO U w (U 31 (4 * s + k))) := by
  unfold clN
  rw [List.getD_eq_getElem?_getD, List.getElem?_map, List.getElem?_range (by omega)]
  show optA (A 1) (mO U w (U 31 (4 * s + ((k.toNat : Nat) : Int)))) = _
  rw [show ((k.toNat : Nat) : Int) = k by omega]
theorem clN_len {n : Nat} : (clN U w A s n).length = n := by
  unfold clN
  rw [List.length_map, List.length_range]
/-- the closed methods -/
theorem tr_cl (j : JP w g U c l) (hs : As w U s) (e : U 20 s = 9) :
    ∀ (n : Nat) (k x : Int) (h : am_H) (v : vT), 0 ≤ k → k + n = U 30 s → sOk x → CR h v → JK R A T w p0 U c l L0 Nd X s v0 v N Z Bs → hI v.1 (A 2 s) 11 = iI x →
    (∀ h' v' l2, CR h' v' → JK R A T w p0 U c l L0 Nd X s v0 v' N Z Bs → hI v'.1 (A 2 s) 11 = iI (tFor (fun k a => sOr a (thO U w (mO U w (U 31 (4 * s + k))))) n k x) → Rn r 232 95 [some (vR (some (A 2 s))), some (vR (some (R 3))), l2, l3, l4, l5] [] h' Q) →
    Rn r 232 36 [some (vR (some (A 2 s))), some (vR (some (R 3))), some (vI (iI k)), l3, l4, l5] [] h Q := by
  have qv := j.2.1.2.1
  have qw := j.2.1.2.2.1
  have b30 := QV_b qv (f := 30) (c := 4) rfl rfl rfl s
  intro n
  induction n with
  | zero =>
    intro k x h v k0 hk hx cr jk hi q
    obtain ⟨k1, k2, k3, ⟨l7, k7, r7, v7⟩, _⟩ := FS9 jk.gx hs e
    have len : (vLs v l7).length = (U 30 s).toNat := by rw [v7, clN_len]
    rw [sX20_thrown_36, sX20_thrown_37, sX20_thrown_38 (cr.kk k1 (by decide)), cr.rr k1 rfl, r7, sX20_thrown_41 (cr.kk k7 (by decide)), v_size cr k7, Kt_v, sX20_thrown_44, len, if_pos (by rw [iI_le (by omega) (by omega) (by omega) (by omega)]; omega)]
    exact q h v _ cr jk hi
  | succ n ih =>
    intro k x h v k0 hk hx cr jk hi q
    have gx := jk.gx
    obtain ⟨k1, k2, k3, ⟨l7, k7, r7, v7⟩, _⟩ := FS9 gx hs e
    have len : (vLs v l7).length = (U 30 s).toNat := by rw [v7, clN_len]
    have ej : iI k + (1 : Int32) = iI (k + 1) := by rw [i_1, iI_add]
    have kx : KX h v (R 3) (R 4) U w (A 0) := ⟨cr, gx.1.1, qw⟩
    have k5 := gx.1.1.1
    have ge : (vLs v l7).getD k.toNat none = optA (A 1) (mO U w (U 31 (4 * s + k))) := by rw [v7]; exact clN_get k0 (by omega)
    rw [tFor] at q
    have fin : Rn r 232 85 [some (vR (some (A 2 s))), some (vR (some (R 3))), some (vI (iI k)), l3, l4, l5] [vI (iI (thO U w (mO U w (U 31 (4 * s + k))))), vI (iI x), vR (some (A 2 s))] h Q := by
      rw [sX20_thrown_85, iI_or hx (thO_ok qw), sX20_thrown_86 (cr.kk k1 (by decide)), sX20_thrown_89, ej, sX20_thrown_92]
      have c2 := CR_pI (k := 11) (x := iI (sOr x (thO U w (mO U w (U 31 (4 * s + k)))))) cr k1 rfl
      obtain ⟨jk2, f11, _⟩ := jk_ps (k := 11) (x := iI (sOr x (thO U w (mO U w (U 31 (4 * s + k)))))) j hs jk (Or.inr (Or.inr rfl))
      exact ih (k + 1) _ _ _ (by omega) (by omega) (sOr_ok hx (thO_ok qw)) c2 jk2 f11 q
    rw [sX20_thrown_36, sX20_thrown_37, sX20_thrown_38 (cr.kk k1 (by decide)), cr.rr k1 rfl, r7, sX20_thrown_41 (cr.kk k7 (by decide)), v_size cr k7, Kt_v, sX20_thrown_44, len, if_neg (by rw [iI_le (by omega) (by omega) (by omega) (by omega)]; omega), sX20_thrown_47, sX20_thrown_48, sX20_thrown_49 (cr.kk k1 (by decide)), cr.ii k1 rfl, hi, sX20_thrown_52, sX20_thrown_53 (cr.kk k1 (by decide)), cr.rr k1 rfl, r7, sX20_thrown_56, sX20_thrown_57 (cr.kk k7 (by decide)), v_get cr k7 k0 (by rw [len]; omega), Kt_v, ge, sX20_thrown_60]
    have mb := mO_b (U := U) (w := w) (x := U 31 (4 * s + k)) qw.2.1
    by_cases z : mO U w (U 31 (4 * s + k)) = -1
    · rw [z, optA_n, if_neg (fun y => y rfl), sX20_thrown_63, sX20_thrown_64]
      rw [z] at fin
      exact fin
    · obtain ⟨km, _, _, i3, _, _, _, ⟨ln, r7', _, nl⟩, _⟩ := gx.2.2.1.2.2.2 (mO U w (U 31 (4 * s + k))) (by omega) (mb.2.resolve_right z)
      have b15 := QV_b qv (f := 15) (c := 4) rfl rfl rfl (w * 12 + mO U w (U 31 (4 * s + k)))
      rw [optA_s z, if_pos (by simp), sX20_thrown_67, sX20_thrown_68, sX20_thrown_69 (cr.kk k1 (by decide)), cr.rr k1 rfl, r7, sX20_thrown_72, sX20_thrown_73 (cr.kk k7 (by decide)), v_get cr k7 k0 (by rw [len]; omega), Kt_v, ge, optA_s z, sX20_thrown_76 (by rw [cr.kk km (by decide)]; decide), sX20_thrown_79 (cr.kk km (by decide)), cr.rr km rfl, r7', sX20_thrown_82 (cr.kk k5 (by decide)), c_bitsOf kx nl (by omega) (fun i _ _ => kO_b qw.1), Kt_v, ← thO_m z]
      exact fin
/-- the end -/
theorem tr_e (j : JP w g U c l) (hs : As w U s) (e : U 20 s = 9) (cr : CR h v) (jk : JK R A T w p0 U c l L0 Nd X s v0 v N Z Bs) (hi : IF A w U c v s) (h29 : U 29 s ≠ -1 → U 29 s ∈ Bs) (q : Q (Sum.inl (some (vI (iI (c s))))) h) :
    Rn r 232 174 [some (vR (some (A 2 s))), some (vR (some (R 3))), some (vI (iI (trA U w s))), some (vI (iI (trM U w c s))), l4, l5] [] h Q := by
  have qv := j.2.1.2.1
  have qw := j.2.1.2.2.1
  have b33 := QV_b qv (f := 33) (c := 4) rfl rfl rfl s
  have gx := jk.gx
  have bd := bo27 j hs (by omega)
  have kx : KX h v (R 3) (R 4) U w (A 0) := ⟨cr, gx.1.1, qw⟩
  have k5 := gx.1.1.1
  have io : sOk (ins U w c s) := by unfold ins; exact sOr_ok (bCk j bd.1) (nmO_ok qw)
  have oA : sOk (trA U w s) := tFor_okk (fun k a _ _ ha => sOr_ok ha (cBy_ok qw)) _ _ _ (Int.le_refl _) (by omega) sOk0
  have oM : sOk (trM U w c s) := by
    refine tFor_okr (fun k a => sOr a (bC U w c (U 34 (4 * s + k)))) sOk (U 33 s) (fun k a h0 h1 ha => sOr_ok ha (bCk j (bo34 j hs h0 h1).1)) _ _ _ (Int.le_refl _) (by omega) sOk0
  have ce : c s = trd U w c l s := by
    have := (j.2.2.1 s hs).2.1
    unfold can at this
    rw [if_neg (by omega), if_neg (by omega), if_neg (by omega), if_pos e] at this
    exact this
  rw [ce] at q
  unfold trd at q
  rw [sOr_comm (a := wout U w (ins U w c s) (trA U w s))] at q
  have oo : sOk (sOr (trM U w c s) (wout U w (ins U w c s) (trA U w s))) := sOr_ok oM (wout_ok qw)
  obtain ⟨k1, k2, k3, _⟩ := FS9 gx hs e
  rw [sX20_thrown_174, sX20_thrown_175, sX20_thrown_176, sX20_thrown_177 (cr.kk k1 (by decide)), cr.ii k1 rfl, show hI v.1 (A 2 s) 11 = iI (ins U w c s) from hi, sX20_thrown_180, sX20_thrown_181 (cr.kk k5 (by decide)), c_without kx io oA, Kt_v, sX20_thrown_184, iI_or oM (wout_ok qw), sX20_thrown_185, sX20_thrown_186, sX20_thrown_187 (cr.kk k1 (by decide)), cr.rr k1 rfl, k3, sX20_thrown_190]
  by_cases z : U 29 s = -1
  · rw [if_pos z] at q
    rw [z, optA_n, if_neg (fun y => y rfl), sX20_thrown_193, sX20_thrown_194, sX20_thrown_226]
    exact q
  · have bf := jk.bf (h29 z)
    have yb := (jk.2.1 _ (h29 z)).1
    have kb := gx.kb yb
    rw [if_neg z] at q
    rw [optA_s z, if_pos (by simp), sX20_thrown_197, sX20_thrown_198 (cr.kk k1 (by decide)), cr.rr k1 rfl, k3, optA_s z, sX20_thrown_201 (cr.kk kb (by decide)), cr.ii kb rfl, bf.2, sX20_thrown_204]
    by_cases y : isL U l (U 29 s) = true
    · rw [if_pos y] at q
      rw [if_neg (by rw [bI_t y]; decide), sX20_thrown_207, sX20_thrown_208, sX20_thrown_209 (cr.kk k1 (by decide)), cr.rr k1 rfl, k3, optA_s z, sX20_thrown_212 (cr.kk kb (by decide)), cr.ii kb rfl, bf.1, sX20_thrown_215, iI_or oo (bCk j yb), sX20_thrown_216, sX20_thrown_226]
      exact q
    · rw [if_neg y] at q
      rw [if_pos (by rw [bI_f y]; rfl), sX20_thrown_219, sX20_thrown_220 (cr.kk k1 (by decide)), cr.rr k1 rfl, k3, optA_s z, sX20_thrown_223 (cr.kk kb (by decide)), cr.ii kb rfl, bf.1, sX20_thrown_226]
      exact q
end JT4
