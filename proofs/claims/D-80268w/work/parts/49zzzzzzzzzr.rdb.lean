/-! COMPONENT, 131: Reader.read, the beginning (pc 0-70) *-/
/-- a reader between two texts; C: its lists -/
def RdS (v : vT) (rd tp wr : Nat) (C : Nat → Nat) (t : Int → Int) : Prop := RW v rd wr ∧ (hK v.1 tp = 44 ∧ hL v.1 tp = 2000 ∧ ∀ p, 0 ≤ p → p < 2000 → hI v.1 tp p.toNat = iI (sB (t p))) ∧
  (hR v.1 rd 10 = some (C 10) ∧ hR v.1 rd 11 = some (C 11) ∧ hR v.1 rd 12 = some (C 12) ∧ hR v.1 rd 13 = some (C 13) ∧ hR v.1 rd 17 = some (C 14)) ∧ (∀ i, 10 ≤ i → i ≤ 14 → hK v.1 (C i) = 4) ∧ (C 10 ≠ C 11 ∧ C 10 ≠ C 12 ∧ C 10 ≠ C 13 ∧ C 10 ≠ C 14 ∧ C 11 ≠ C 12 ∧ C 11 ≠ C 13 ∧ C 11 ≠ C 14 ∧ C 12 ≠ C 13 ∧ C 12 ≠ C 14 ∧ C 13 ≠ C 14) ∧ CS v
/-- what reading may change of what was there -/
def XR0 (rd wr : Nat) (C : Nat → Nat) (a k : Nat) : Prop := (a = rd ∧ k ≠ 0 ∧ ¬ (10 ≤ k ∧ k ≤ 13) ∧ k ≠ 17) ∨ (a = wr ∧ k = 6) ∨ (k = 99 ∧ ∃ i, 10 ≤ i ∧ i ≤ 14 ∧ a = C i)
section RDB
variable {rd tp wr u r : Nat} {h : am_H} {v : vT} {C : Nat → Nat} {w : Int} {S U1 : tSt} {Q : am_O → am_H → Prop} {l0 l1 l2 : Option am_V}
theorem cl_1 {a : Nat} (c : CR h v) (ka : hK v.1 a = 4) (q : ∀ h' v', CR h' v' → Fw (fun b k => b = a ∧ k = 99) v v' → vLs v' a = [] → hN v'.1 = hN v.1 → hS v'.1 = hS v.1 → Q (Sum.inl none) h') : Cl r 79 [vR (some a)] h Q :=
  v_clear c ka (fun h' c' => q h' _ c' ((Fw.refl.bm (Nat.le_refl _)).sL (Or.inr ⟨rfl, rfl⟩)) (if_pos rfl) rfl rfl)
/-- fields set, lists cleared (pc 0-55) -/
theorem rd_a (c : CR h v) (x : RdS v rd tp wr C (S 0)) {n : Int} (q : ∀ h' v', CR h' v' → Fw (XR0 rd wr C) v v' → RdS v' rd tp wr C (S 0) → hR v'.1 rd 1 = some tp → hI v'.1 rd 2 = iI n → hI v'.1 rd 3 = 0 → hI v'.1 rd 9 = 0 → (∀ i, 10 ≤ i → i ≤ 14 → vLs v' (C i) = []) → hN v'.1 = hN v.1 → hS v'.1 = hS v.1 → Rn r 33 55 [some (vR (some rd)), some (vR (some tp)), some (vI (iI n))] [] h' Q) : Cl r 33 [vR (some rd), vR (some tp), vI (iI n)] h Q := by
  obtain ⟨rw0, ⟨kt, lt, ht⟩, ⟨g10, g11, g12, g13, g17⟩, kC, ds, cs⟩ := id x
  obtain ⟨kr, wr0, kw⟩ := rw0
  have c1 := CR_pR (k := 1) (z := some tp) c kr rfl
  have c2 := CR_pI (k := 2) (x := iI n) c1 kr rfl
  have c3 := CR_pI (k := 3) (x := 0) c2 kr rfl
  have c4 := CR_pI (k := 9) (x := 0) c3 kr rfl
  have f4 : Fw (fun a k => a = rd ∧ (k = 1 ∨ k = 2 ∨ k = 3 ∨ k = 9)) v (vpI (vpI (vpI (vpR v rd 1 (some tp)) rd 2 (iI n)) rd 3 0) rd 9 0) := (((Fw.refl.pR (Or.inr ⟨rfl, by omega⟩)).pI (Or.inr ⟨rfl, by omega⟩)).pI (Or.inr ⟨rfl, by omega⟩)).pI (Or.inr ⟨rfl, by omega⟩)
  have e1 : hR (vpI (vpI (vpI (vpR v rd 1 (some tp)) rd 2 (iI n)) rd 3 0) rd 9 0).1 rd 1 = some tp := by
    rw [vpI_1, hR_putI, vpI_1, hR_putI, vpI_1, hR_putI, vpR_1, hR_putR, if_pos ⟨rfl, rfl⟩]
  have e2 : hI (vpI (vpI (vpI (vpR v rd 1 (some tp)) rd 2 (iI n)) rd 3 0) rd 9 0).1 rd 2 = iI n := by
    rw [vpI_1, hI_putI, if_neg (by simp), vpI_1, hI_putI, if_neg (by simp), vpI_1, hI_putI, if_pos ⟨rfl, rfl⟩]
  have e3 : hI (vpI (vpI (vpI (vpR v rd 1 (some tp)) rd 2 (iI n)) rd 3 0) rd 9 0).1 rd 3 = 0 := by
    rw [vpI_1, hI_putI, if_neg (by simp), vpI_1, hI_putI, if_pos ⟨rfl, rfl⟩]
  have e9 : hI (vpI (vpI (vpI (vpR v rd 1 (some tp)) rd 2 (iI n)) rd 3 0) rd 9 0).1 rd 9 = 0 := by
    rw [vpI_1, hI_putI, if_pos ⟨rfl, rfl⟩]
  have n4 : hN (vpI (vpI (vpI (vpR v rd 1 (some tp)) rd 2 (iI n)) rd 3 0) rd 9 0).1 = hN v.1 := rfl
  have s4 : hS (vpI (vpI (vpI (vpR v rd 1 (some tp)) rd 2 (iI n)) rd 3 0) rd 9 0).1 = hS v.1 := rfl
  have krh := c.kk kr (by decide)
  rw [eX1_read, sX1_read_0, sX1_read_1, sX1_read_2 krh, sX1_read_5, sX1_read_6, sX1_read_7 (c1.kk kr (by decide)), sX1_read_10, sX1_read_11, sX1_read_12 (c2.kk kr (by decide)), sX1_read_15, sX1_read_16, sX1_read_17 (c3.kk kr (by decide)), sX1_read_20]
  generalize (vpI (vpI (vpI (vpR v rd 1 (some tp)) rd 2 (iI n)) rd 3 0) rd 9 0) = v4 at *
  generalize (putI (putI (putI (putR h rd 1 (some tp)) rd 2 (iI n)) rd 3 0) rd 9 0) = h4 at *
  have lr := hK_lt kr (by decide)
  have kr4 := f4.kk kr (by decide)
  have r4 : ∀ k, k ≠ 1 → k ≠ 2 → k ≠ 3 → k ≠ 9 → hR v4.1 rd k = hR v.1 rd k := fun k a b d e => (f4.ff lr (fun y => by omega)).2.2
  have kC4 : ∀ i, 10 ≤ i → i ≤ 14 → hK v4.1 (C i) = 4 := fun i h1 h2 => f4.kk (kC i h1 h2) (by decide)
  rw [sX1_read_21 (c4.kk kr4 (by decide)), c4.rr kr4 rfl, r4 10 (by decide) (by decide) (by decide) (by decide), g10, sX1_read_24 (c4.kk (kC4 10 (by omega) (by omega)) (by decide))]
  refine cl_1 c4 (kC4 10 (by omega) (by omega)) (fun h5 v5 c5 f5 l5 n5 s5 => ?_)
  have kr5 := f5.kk kr4 (by decide)
  have kC5 : ∀ i, 10 ≤ i → i ≤ 14 → hK v5.1 (C i) = 4 := fun i h1 h2 => f5.kk (kC4 i h1 h2) (by decide)
  have lr4 := hK_lt kr4 (by decide)
  have r5 : ∀ k, k < 50 → hR v5.1 rd k = hR v4.1 rd k := fun k hk => (f5.ff lr4 (fun y => by omega)).2.2
  rw [Kt_0, sX1_read_27, sX1_read_28 (c5.kk kr5 (by decide)), c5.rr kr5 rfl, r5 11 (by decide), r4 11 (by decide) (by decide) (by decide) (by decide), g11, sX1_read_31 (c5.kk (kC5 11 (by omega) (by omega)) (by decide))]
  refine cl_1 c5 (kC5 11 (by omega) (by omega)) (fun h6 v6 c6 f6 l6 n6 s6 => ?_)
  have kr6 := f6.kk kr5 (by decide)
  have kC6 : ∀ i, 10 ≤ i → i ≤ 14 → hK v6.1 (C i) = 4 := fun i h1 h2 => f6.kk (kC5 i h1 h2) (by decide)
  have lr5 := hK_lt kr5 (by decide)
  have r6 : ∀ k, k < 50 → hR v6.1 rd k = hR v5.1 rd k := fun k hk => (f6.ff lr5 (fun y => by omega)).2.2
  rw [Kt_0, sX1_read_34, sX1_read_35 (c6.kk kr6 (by decide)), c6.rr kr6 rfl, r6 12 (by decide), r5 12 (by decide), r4 12 (by decide) (by decide) (by decide) (by decide), g12, sX1_read_38 (c6.kk (kC6 12 (by omega) (by omega)) (by decide))]
  refine cl_1 c6 (kC6 12 (by omega) (by omega)) (fun h7 v7 c7 f7 l7 n7 s7 => ?_)
  have kr7 := f7.kk kr6 (by decide)
  have kC7 : ∀ i, 10 ≤ i → i ≤ 14 → hK v7.1 (C i) = 4 := fun i h1 h2 => f7.kk (kC6 i h1 h2) (by decide)
  have lr6 := hK_lt kr6 (by decide)
  have r7 : ∀ k, k < 50 → hR v7.1 rd k = hR v6.1 rd k := fun k hk => (f7.ff lr6 (fun y => by omega)).2.2
  rw [Kt_0, sX1_read_41, sX1_read_42 (c7.kk kr7 (by decide)), c7.rr kr7 rfl, r7 13 (by decide), r6 13 (by decide), r5 13 (by decide), r4 13 (by decide) (by decide) (by decide) (by decide), g13, sX1_read_45 (c7.kk (kC7 13 (by omega) (by omega)) (by decide))]
  refine cl_1 c7 (kC7 13 (by omega) (by omega)) (fun h8 v8 c8 f8 l8 n8 s8 => ?_)
  have kr8 := f8.kk kr7 (by decide)
  have kC8 : ∀ i, 10 ≤ i → i ≤ 14 → hK v8.1 (C i) = 4 := fun i h1 h2 => f8.kk (kC7 i h1 h2) (by decide)
  have lr7 := hK_lt kr7 (by decide)
  have r8 : ∀ k, k < 50 → hR v8.1 rd k = hR v7.1 rd k := fun k hk => (f8.ff lr7 (fun y => by omega)).2.2
  rw [Kt_0, sX1_read_48, sX1_read_49 (c8.kk kr8 (by decide)), c8.rr kr8 rfl, r8 17 (by decide), r7 17 (by decide), r6 17 (by decide), r5 17 (by decide), r4 17 (by decide) (by decide) (by decide) (by decide), g17, sX1_read_52 (c8.kk (kC8 14 (by omega) (by omega)) (by decide))]
  refine cl_1 c8 (kC8 14 (by omega) (by omega)) (fun h9 v9 c9 f9 l9 n9 s9 => ?_)
  have kC9 : ∀ i, 10 ≤ i → i ≤ 14 → hK v9.1 (C i) = 4 := fun i h1 h2 => f9.kk (kC8 i h1 h2) (by decide)
  rw [Kt_0]
  have F : Fw (fun a k => k = 99 ∧ ∃ i, 10 ≤ i ∧ i ≤ 14 ∧ a = C i) v4 v9 := by
    have m : ∀ i, 10 ≤ i → i ≤ 14 → ∀ a k, (a = C i ∧ k = 99) → (k = 99 ∧ ∃ i, 10 ≤ i ∧ i ≤ 14 ∧ a = C i) := fun i h1 h2 a k y => ⟨y.2, i, h1, h2, y.1⟩
    exact ((((f5.mono (m 10 (by omega) (by omega))).trans (f6.mono (m 11 (by omega) (by omega)))).trans (f7.mono (m 12 (by omega) (by omega)))).trans (f8.mono (m 13 (by omega) (by omega)))).trans (f9.mono (m 14 (by omega) (by omega)))
  have FF : Fw (XR0 rd wr C) v v9 := (f4.mono (fun a k y => Or.inl ⟨y.1, by omega, by omega, by omega⟩)).trans (F.mono (fun a k y => Or.inr (Or.inr y)))
  have rF : ∀ k, k < 50 → hR v9.1 rd k = hR v4.1 rd k ∧ hI v9.1 rd k = hI v4.1 rd k := fun k hk => by
    have := F.ff (k := k) lr4 (fun y => by omega)
    exact ⟨this.2.2, this.1⟩
  have lC : ∀ i, 10 ≤ i → i ≤ 14 → C i < hN v4.1 := fun i h1 h2 => hK_lt (kC4 i h1 h2) (by decide)
  have keep : ∀ (i : Nat) {va vb : vT} {a : Nat}, 10 ≤ i → i ≤ 14 → hK va.1 (C i) = 4 → Fw (fun b k => b = a ∧ k = 99) va vb → C i ≠ a → vLs vb (C i) = vLs va (C i) := fun i va vb a h1 h2 k f ne => (f.cc (hK_lt k (by decide)) (fun y => ne y.1)).1
  obtain ⟨d1, d2, d3, d4, d5, d6, d7, d8, d9, d10⟩ := ds
  have kw9 : hK v9.1 wr = 3 := FF.kk kw (by decide)
  have lw := hK_lt kw (by decide)
  have lt0 := hK_lt kt (by decide)
  refine q h9 v9 c9 FF ⟨⟨F.kk kr4 (by decide), ?_, kw9⟩, ⟨FF.kk kt (by decide), ?_, fun p h0 h1 => ?_⟩, ⟨?_, ?_, ?_, ?_, ?_⟩, kC9, ⟨d1, d2, d3, d4, d5, d6, d7, d8, d9, d10⟩, CS_fw FF cs (fun a y => ?_)⟩ ?_ ?_ ?_ ?_ (fun i h1 h2 => ?_) (by omega) (by omega)
  · rw [(rF 0 (by decide)).1, r4 0 (by decide) (by decide) (by decide) (by decide)]; exact wr0
  · rw [(FF.2.2 tp lt0).2.1]; exact lt
  · rw [(FF.ff lt0 (fun y => by
      rcases y with y | y | ⟨y, i, h1, h2, e⟩
      · rw [y.1, kr] at kt; omega
      · rw [y.1, kw] at kt; omega
      · have := kC i h1 h2
        rw [← e, kt] at this
        omega)).1]
    exact ht p h0 h1
  · rw [(rF 10 (by decide)).1, r4 10 (by decide) (by decide) (by decide) (by decide)]; exact g10
  · rw [(rF 11 (by decide)).1, r4 11 (by decide) (by decide) (by decide) (by decide)]; exact g11
  · rw [(rF 12 (by decide)).1, r4 12 (by decide) (by decide) (by decide) (by decide)]; exact g12
  · rw [(rF 13 (by decide)).1, r4 13 (by decide) (by decide) (by decide) (by decide)]; exact g13
  · rw [(rF 17 (by decide)).1, r4 17 (by decide) (by decide) (by decide) (by decide)]; exact g17
  · rcases y with y | y | ⟨_, i, h1, h2, e⟩
    · rw [y.1, kr]; decide
    · rw [y.1, kw]; decide
    · rw [e, kC i h1 h2]; decide
  · rw [(rF 1 (by decide)).1]; exact e1
  · rw [(rF 2 (by decide)).2]; exact e2
  · rw [(rF 3 (by decide)).2]; exact e3
  · rw [(rF 9 (by decide)).2]; exact e9
  · have hi : i = 10 ∨ i = 11 ∨ i = 12 ∨ i = 13 ∨ i = 14 := by omega
    rcases hi with rfl | rfl | rfl | rfl | rfl
    · rw [keep 10 h1 h2 (kC8 10 h1 h2) f9 d4, keep 10 h1 h2 (kC7 10 h1 h2) f8 d3, keep 10 h1 h2 (kC6 10 h1 h2) f7 d2, keep 10 h1 h2 (kC5 10 h1 h2) f6 d1]; exact l5
    · rw [keep 11 h1 h2 (kC8 11 h1 h2) f9 d7, keep 11 h1 h2 (kC7 11 h1 h2) f8 d6, keep 11 h1 h2 (kC6 11 h1 h2) f7 d5]; exact l6
    · rw [keep 12 h1 h2 (kC8 12 h1 h2) f9 d9, keep 12 h1 h2 (kC7 12 h1 h2) f8 d8]; exact l7
    · rw [keep 13 h1 h2 (kC8 13 h1 h2) f9 d10]; exact l8
    · exact l9
end RDB
