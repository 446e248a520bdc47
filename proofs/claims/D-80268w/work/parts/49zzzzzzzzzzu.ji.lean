/-! BOTH, 2: the two houses between calls *-/
/-- the script -/
def SCs (H : am_H) (sc len : Nat) (sv : Nat → Int32) : Prop := hK H sc = 41 ∧ hL H sc = len ∧ ∀ k, hI H sc k = sv k
/-- behind t calls -/
def JI (x m sc len : Nat) (sv : Nat → Int32) (N0 S0 : Nat) (t : Int) (H : am_H) (v : vT) : Prop :=
  ∃ rd tp wr wk C R A T p0 g w S U U1, CR H v ∧ AX v x rd tp wr wk C R A T p0 g w S U ∧ TWs v.1 m w S U U1 ∧ (S 2 0 = w ∧ 0 ≤ w ∧ w ≤ 1) ∧ QV U1 ∧ NK w U ∧ WB S ∧ SCs v.1 sc len sv ∧ (0 ≤ t ∧ S 1 0 ≤ 20 * t ∧ (hN v.1 : Int) + 310 * S 1 0 ≤ N0 + 6200 * t ∧ (hS v.1 : Int) + 2100 * S 1 0 ≤ S0 + 45000 * t)
/-- between the two calls: the component answered a -/
def MID (x m sc len : Nat) (sv : Nat → Int32) (N0 S0 : Nat) (t : Int) (n2 : Nat) (args : List am_V) (r : Nat) (a : Int32) (H : am_H) : Prop :=
  SCs H sc len sv ∧ hK H m = 15 ∧ ∀ Q2 : am_O → am_H → Prop, (∀ H2 v2, JI x m sc len sv N0 S0 t H2 v2 → Q2 (Sum.inl (some (vI a))) H2) → Cl r n2 (vR (some m) :: args) H Q2
theorem i_lo (y : Int32) : -2147483648 ≤ y.toInt := by
  have := Int32.le_toInt y
  omega
theorem i_hi (y : Int32) : y.toInt < 2147483648 := by
  have := Int32.toInt_lt y
  omega
theorem l_lo (y : Int64) : -9223372036854775808 ≤ y.toInt := by
  have := Int64.le_toInt y
  omega
theorem l_hi (y : Int64) : y.toInt < 9223372036854775808 := by
  have := Int64.toInt_lt y
  omega
section JIS
variable {x m sc len N0 S0 rd tp wr wk r : Nat} {sv : Nat → Int32} {C R : Nat → Nat} {A : Nat → Int → Nat} {T : Nat → Nat} {p0 w t : Int} {g : Int → Int} {v : vT} {h : am_H} {S S' U U1 : tSt} {Q : am_O → am_H → Prop}
theorem SCs.cr (s : SCs v.1 sc len sv) (c : CR h v) : SCs h sc len sv := by
  obtain ⟨s1, s2, s3⟩ := s
  refine ⟨c.kk s1 (by decide), by rw [c.hl s1 (by decide) (wk_all (c := 41) rfl).2.1]; exact s2, fun k => by rw [c.ii s1 rfl]; exact s3 k⟩
theorem SCs.kt {v' : vT} (s : SCs v.1 sc len sv) (k : KT v v') : SCs v'.1 sc len sv := by
  obtain ⟨s1, s2, s3⟩ := s
  obtain ⟨a1, a2, a3⟩ := k sc (by omega)
  exact ⟨by rw [a1]; exact s1, by rw [a2]; exact s2, fun i => by rw [(a3 i).1]; exact s3 i⟩
theorem SCs.tpu (s : SCs h sc len sv) (t : TS h m) : SCs (tput h m w S U) sc len sv := by
  obtain ⟨s1, s2, s3⟩ := s
  refine ⟨s1, s2, fun k => ?_⟩
  rw [(tpI_o (fun y => by have := t.kd y; omega)).1]
  exact s3 k
theorem AX_tp (ax : AX v x rd tp wr wk C R A T p0 g w S U) (t : TS v.1 m) {w2 : Int} {S2 U2 : tSt} : AX (vtp v m w2 S2 U2) x rd tp wr wk C R A T p0 g w S U := by
  have f := Fw_tp (w := w2) (S := S2) (U := U2) t
  obtain ⟨⟨kx, r0, i1, r2, r3, r4⟩, ⟨kw, i4⟩, y, ju, jp, tC, m, sl⟩ := ax
  have no : ∀ {a n : Nat}, hK v.1 a = n → n ≠ 15 → n ≠ 40 ∧ n ≠ 42 ∧ n ≠ 43 → ∀ k : Nat, ¬ (hK v.1 a = 15 ∨ hK v.1 a = 40 ∨ hK v.1 a = 42 ∨ hK v.1 a = 43) := fun {a n} e h1 h2 k => by omega
  have fx := fun k => f.ff (a := x) (k := k) (hK_lt kx (by decide)) (by omega)
  have fw := fun k => f.ff (a := wk) (k := k) (hK_lt kw (by decide)) (by omega)
  exact ⟨⟨f.kk kx (by decide), by rw [(fx 0).2.2]; exact r0, by rw [(fx 1).1]; exact i1, by rw [(fx 2).2.2]; exact r2, by rw [(fx 3).2.2]; exact r3, by rw [(fx 4).2.2]; exact r4⟩, ⟨f.kk kw (by decide), by rw [(fw 4).1]; exact i4⟩, RdS_t y f (fun a k z _ => z), JU_fr ju f (fun a k z _ => by unfold XKu; omega), jp, tC, m, sl⟩
theorem JI_mono (j : JI x m sc len sv N0 S0 t h v) : JI x m sc len sv N0 S0 (t + 1) h v := by
  obtain ⟨rd, tp, wr, wk, C, R, A, T, p0, g, w, S, U, U1, c, ax, tw, hw, qv, nk, wb, s, b⟩ := j
  exact ⟨rd, tp, wr, wk, C, R, A, T, p0, g, w, S, U, U1, c, ax, tw, hw, qv, nk, wb, s, by omega⟩
/-- the twin follows: a new state in the same half -/
theorem JI_step (c : CR h v) (ax : AX v x rd tp wr wk C R A T p0 g w S' U) (tw : TWs v.1 m w S U U1) (hw : S' 2 0 = w ∧ 0 ≤ w ∧ w ≤ 1) (qv : QV U1) (nk : NK w U) (wb : WB S') (s : SCs v.1 sc len sv) (b : 0 ≤ t ∧ S' 1 0 ≤ 20 * t ∧ (hN v.1 : Int) + 310 * S' 1 0 ≤ N0 + 6200 * t ∧ (hS v.1 : Int) + 2100 * S' 1 0 ≤ S0 + 45000 * t) : JI x m sc len sv N0 S0 t (tput h m w S' U) (vtp v m w S' U) :=
  ⟨rd, tp, wr, wk, C, R, A, T, p0, g, w, S', U, U1, CR_tp c tw.1, AX_tp ax tw.1, TWs_t tw hw.2.1 hw.2.2, hw, qv, nk, wb, s.tpu tw.1, b⟩
theorem AX.qc (ax : AX v x rd tp wr wk C R A T p0 g w S U) (t : TS h m) (hw : S 2 0 = w ∧ 0 ≤ w ∧ w ≤ 1) : QC h m w S U := ⟨t, ax.2.2.2.2.1.2.1.2.1.qu, hw.1, hw.2, ax.2.2.2.2.1.2.1.2.2.1⟩
theorem AX.sl (ax : AX v x rd tp wr wk C R A T p0 g w S U) : SL S := ax.2.2.2.2.2.2.2
/-- a question that changes nothing -/
theorem j_ask {n1 n2 : Nat} {args : List am_V} (j : JI x m sc len sv N0 S0 t h v) (cmp : ∀ {rd tp wr wk C R A T p0 g w S U}, CR h v → AX v x rd tp wr wk C R A T p0 g w S U → ∃ a, (∀ Q1 : am_O → am_H → Prop, Q1 (Sum.inl (some (vI a))) h → Cl r n1 (vR (some x) :: args) h Q1) ∧ ∀ (h0 : am_H) (Q2 : am_O → am_H → Prop), TS h0 m → S 2 0 = w → (0 ≤ w ∧ w ≤ 1) → Q2 (Sum.inl (some (vI a))) (tput h0 m w S U) → Cl r n2 (vR (some m) :: args) (tput h0 m w S U) Q2)
    (q : ∀ a, MID x m sc len sv N0 S0 (t + 1) n2 args r a h → Q (Sum.inl (some (vI a))) h) : Cl r n1 (vR (some x) :: args) h Q := by
  have j1 := JI_mono j
  obtain ⟨rd, tp, wr, wk, C, R, A, T, p0, g, w, S, U, U1, c, ax, tw, hw, qv, nk, wb, s, b⟩ := j
  obtain ⟨a, q1, q2⟩ := cmp c ax
  refine q1 _ (q a ⟨s.cr c, (tw.1.cr c).1, fun Q2 k2 => ?_⟩)
  have tH := tw.cr c
  have := q2 h Q2 tH.1 hw.1 hw.2
  rw [tH.2.1.id] at this
  exact this (k2 h v j1)
theorem j_told {y : Int32} (j : JI x m sc len sv N0 S0 t h v) (q : ∀ a, MID x m sc len sv N0 S0 (t + 1) 10 [vI y] r a h → Q (Sum.inl (some (vI a))) h) : Cl r 9 [vR (some x), vI y] h Q := by
  refine j_ask (n1 := 9) j (fun {rd tp wr wk C R A T p0 g w S U} c ax => ⟨iI (tTold w S U y.toInt), fun Q1 k => ?_, fun h0 Q2 t0 hw w0 k => ?_⟩) q
  · have := ax_told (r := r) (y := y.toInt) (Q := Q1) c ax ⟨i_lo y, i_hi y⟩ k
    rw [iI_of] at this
    exact this
  · have := (tw_told (r := r) (x := y.toInt) (U := U) (Q := Q2) t0 hw w0.1 w0.2 ⟨i_lo y, i_hi y⟩).mpr k
    rw [iI_of] at this
    exact this
theorem j_mist {y z : Int32} (j : JI x m sc len sv N0 S0 t h v) (q : ∀ a, MID x m sc len sv N0 S0 (t + 1) 12 [vI y, vI z] r a h → Q (Sum.inl (some (vI a))) h) : Cl r 11 [vR (some x), vI y, vI z] h Q := by
  refine j_ask (n1 := 11) j (fun {rd tp wr wk C R A T p0 g w S U} c ax => ⟨iI (tMist S y.toInt z.toInt), fun Q1 k => ?_, fun h0 Q2 t0 hw w0 k => ?_⟩) q
  · have := ax_mist (r := r) (k := y.toInt) (y := z.toInt) (Q := Q1) c ax ⟨i_lo y, i_hi y⟩ ⟨i_lo z, i_hi z⟩ k
    rw [iI_of, iI_of] at this
    exact this
  · have b60 := ax.2.2.2.2.2.2.1.1
    have := (tw_mistake (r := r) (k := y.toInt) (x := z.toInt) (U := U) (Q := Q2) t0 hw ⟨by omega, b60.2⟩ ⟨i_lo y, i_hi y⟩ ⟨i_lo z, i_hi z⟩).mpr k
    rw [iI_of, iI_of] at this
    exact this
theorem j_kind {y z : Int32} (j : JI x m sc len sv N0 S0 t h v) (q : ∀ a, MID x m sc len sv N0 S0 (t + 1) 14 [vI y, vI z] r a h → Q (Sum.inl (some (vI a))) h) : Cl r 13 [vR (some x), vI y, vI z] h Q := by
  refine j_ask (n1 := 13) j (fun {rd tp wr wk C R A T p0 g w S U} c ax => ⟨iI (tKnd w U y.toInt z.toInt), fun Q1 k => ?_, fun h0 Q2 t0 hw w0 k => ?_⟩) q
  · have := ax_kind (r := r) (k := y.toInt) (y := z.toInt) (Q := Q1) c ax ⟨i_lo y, i_hi y⟩ ⟨i_lo z, i_hi z⟩ k
    rw [iI_of, iI_of] at this
    exact this
  · have := (tw_kindq (r := r) (k := y.toInt) (x := z.toInt) (Q := Q2) (ax.qc t0 ⟨hw, w0⟩) ⟨i_lo y, i_hi y⟩ ⟨i_lo z, i_hi z⟩).mpr k
    rw [iI_of, iI_of] at this
    exact this
theorem j_below {y z : Int32} (j : JI x m sc len sv N0 S0 t h v) (q : ∀ a, MID x m sc len sv N0 S0 (t + 1) 16 [vI y, vI z] r a h → Q (Sum.inl (some (vI a))) h) : Cl r 15 [vR (some x), vI y, vI z] h Q := by
  refine j_ask (n1 := 15) j (fun {rd tp wr wk C R A T p0 g w S U} c ax => ⟨bI (tBlw w U y.toInt z.toInt = true), fun Q1 k => ?_, fun h0 Q2 t0 hw w0 k => ?_⟩) q
  · have := ax_below (r := r) (a := y.toInt) (b := z.toInt) (Q := Q1) c ax ⟨i_lo y, i_hi y⟩ ⟨i_lo z, i_hi z⟩ k
    rw [iI_of, iI_of] at this
    exact this
  · have := (tw_below (r := r) (a := y.toInt) (b := z.toInt) (Q := Q2) (ax.qc t0 ⟨hw, w0⟩) ⟨i_lo y, i_hi y⟩ ⟨i_lo z, i_hi z⟩).mpr k
    rw [iI_of, iI_of] at this
    exact this
theorem j_meth {y z : Int32} (j : JI x m sc len sv N0 S0 t h v) (q : ∀ a, MID x m sc len sv N0 S0 (t + 1) 18 [vI y, vI z] r a h → Q (Sum.inl (some (vI a))) h) : Cl r 17 [vR (some x), vI y, vI z] h Q := by
  refine j_ask (n1 := 17) j (fun {rd tp wr wk C R A T p0 g w S U} c ax => ⟨iI (tMth w S U y.toInt z.toInt), fun Q1 k => ?_, fun h0 Q2 t0 hw w0 k => ?_⟩) q
  · have := ax_meth (r := r) (k := y.toInt) (y := z.toInt) (Q := Q1) c ax ⟨i_lo y, i_hi y⟩ ⟨i_lo z, i_hi z⟩ k
    rw [iI_of, iI_of] at this
    exact this
  · have := (tw_method (r := r) (k := y.toInt) (x := z.toInt) (Q := Q2) (ax.qc t0 ⟨hw, w0⟩) (fun s _ => ax.sl.2.2.2.2 s) ⟨i_lo y, i_hi y⟩ ⟨i_lo z, i_hi z⟩).mpr k
    rw [iI_of, iI_of] at this
    exact this
theorem j_stmt {y z : Int32} (j : JI x m sc len sv N0 S0 t h v) (q : ∀ a, MID x m sc len sv N0 S0 (t + 1) 20 [vI y, vI z] r a h → Q (Sum.inl (some (vI a))) h) : Cl r 19 [vR (some x), vI y, vI z] h Q := by
  refine j_ask (n1 := 19) j (fun {rd tp wr wk C R A T p0 g w S U} c ax => ⟨iI (tSta w S U y.toInt z.toInt), fun Q1 k => ?_, fun h0 Q2 t0 hw w0 k => ?_⟩) q
  · have := ax_stmt (r := r) (k := y.toInt) (y := z.toInt) (Q := Q1) c ax ⟨i_lo y, i_hi y⟩ ⟨i_lo z, i_hi z⟩ k
    rw [iI_of, iI_of] at this
    exact this
  · have := (tw_statement (r := r) (k := y.toInt) (x := z.toInt) (Q := Q2) (ax.qc t0 ⟨hw, w0⟩) ax.sl.2.2.2.2 ⟨i_lo y, i_hi y⟩ ⟨i_lo z, i_hi z⟩).mpr k
    rw [iI_of, iI_of] at this
    exact this
theorem j_steps (j : JI x m sc len sv N0 S0 t h v) (q : ∀ a, MID x m sc len sv N0 S0 (t + 1) 26 [] r a h → Q (Sum.inl (some (vI a))) h) : Cl r 25 [vR (some x)] h Q := by
  refine j_ask (n1 := 25) (args := []) j (fun {rd tp wr wk C R A T p0 g w S U} c ax => ⟨iI (S 65 0), fun Q1 k => ax_steps c ax k, fun h0 Q2 t0 hw w0 k => (tw_steps t0 hw).mpr k⟩) q
end JIS
