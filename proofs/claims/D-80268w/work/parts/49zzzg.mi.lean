/-! COMPONENT, 4: mistakes *-/
section MIS
variable {r u l a b e : Nat} {h : am_H} {v v' : vT} {L : List tMi} {x y z : Int32} {X : tMi} {Q : am_O → am_H → Prop}
theorem c_iMi (k : hK h a = 17) : Cl r 169 [vR (some a), vI x, vI y, vI z] h Q ↔ Q (Sum.inl none) (putI (putI (putI h a 0 x) a 1 y) a 2 z) := by
  simp (disch := first | assumption | decide | (simp only [hK_putI, hK_putJ, hK_putR]; assumption) | omega) only [eX7_init, sX7_init_0, sX7_init_1, sX7_init_4, sX7_init_5, sX7_init_6, sX7_init_9, sX7_init_10, sX7_init_11, sX7_init_14, sX7_init_15, sX7_init_16, sX7_init_19, Kt_v, Kt_0, Kt_x, ne_eq, not_true_eq_false, not_false_eq_true, reduceCtorEq, ↓reduceIte, eJ25_init, sJ25_init_0, sJ25_init_1, sJ25_init_4]
/-- a mistake in a view -/
def rdM (v : vT) (e : Nat) : tMi := ((hI v.1 e 0).toInt, (hI v.1 e 1).toInt, (hI v.1 e 2).toInt)
def MiE (v : vT) (l : Nat) (es : List Nat) : Prop := hK v.1 l = 4 ∧ vLs v l = es.map some ∧ ∀ e, e ∈ es → hK v.1 e = 17
/-- the mistakes of a unit -/
def MiL (v : vT) (l : Nat) (L : List tMi) : Prop := ∃ es, MiE v l es ∧ L = es.map (rdM v)
theorem c_isAhead (c : CR h v) (ka : hK v.1 a = 17) (kb : hK v.1 b = 17) : Cl r 170 [vR (some a), vR (some b)] h Q ↔ Q (Sum.inl (some (vI (bI (msLt (rdM v a) (rdM v b) = true))))) h := by
  have k1 := c.kk ka (by decide)
  have k2 := c.kk kb (by decide)
  have fa := fun k => c.ii (k := k) ka rfl
  have fb := fun k => c.ii (k := k) kb rfl
  simp only [eX7_isAhead, sX7_isAhead_0, sX7_isAhead_1 k1, sX7_isAhead_4, sX7_isAhead_5 k2, sX7_isAhead_8, fa, fb, ← Int32.toInt_inj]
  unfold msLt rdM
  by_cases p1 : (hI v.1 a 1).toInt = (hI v.1 b 1).toInt
  · rw [if_pos p1, if_neg (fun z => z p1)]
    simp only [sX7_isAhead_30, sX7_isAhead_31 k1, sX7_isAhead_34, sX7_isAhead_35 k2, sX7_isAhead_38, fa, fb, ← Int32.toInt_inj]
    by_cases p2 : (hI v.1 a 0).toInt = (hI v.1 b 0).toInt
    · rw [if_pos p2, if_neg (fun z => z p2)]
      simp only [sX7_isAhead_60, sX7_isAhead_61 k1, sX7_isAhead_64, sX7_isAhead_65 k2, sX7_isAhead_68, fa, fb, Int32.le_iff_toInt_le]
      by_cases p3 : (hI v.1 b 2).toInt ≤ (hI v.1 a 2).toInt
      · rw [if_pos p3, sX7_isAhead_75, sX7_isAhead_76 rfl, decide_eq_false (by omega)]
        rfl
      · rw [if_neg p3, sX7_isAhead_71, sX7_isAhead_72, sX7_isAhead_76 rfl, decide_eq_true (by omega)]
        rfl
    · rw [if_neg p2, if_pos p2]
      simp only [sX7_isAhead_41, sX7_isAhead_42 k1, sX7_isAhead_45, sX7_isAhead_46 k2, sX7_isAhead_49, fa, fb, Int32.le_iff_toInt_le]
      by_cases p3 : (hI v.1 b 0).toInt ≤ (hI v.1 a 0).toInt
      · rw [if_pos p3, sX7_isAhead_56, sX7_isAhead_57, sX7_isAhead_76 rfl, decide_eq_false (by omega)]
        rfl
      · rw [if_neg p3, sX7_isAhead_52, sX7_isAhead_53, sX7_isAhead_76 rfl, decide_eq_true (by omega)]
        rfl
  · rw [if_neg p1, if_pos p1]
    simp only [sX7_isAhead_11, sX7_isAhead_12 k1, sX7_isAhead_15, sX7_isAhead_16 k2, sX7_isAhead_19, fa, fb, Int32.le_iff_toInt_le]
    by_cases p3 : (hI v.1 b 1).toInt ≤ (hI v.1 a 1).toInt
    · rw [if_pos p3, sX7_isAhead_26, sX7_isAhead_27, sX7_isAhead_76 rfl, decide_eq_false (by omega)]
      rfl
    · rw [if_neg p3, sX7_isAhead_22, sX7_isAhead_23, sX7_isAhead_76 rfl, decide_eq_true (by omega)]
      rfl
/-- where a mistake goes -/
def insI (x : tMi) (L : List tMi) : Nat → Nat
  | 0 => 0
  | i + 1 => if msLt x (L.getD i (0, 0, 0)) = true then insI x L i else i + 1
theorem insI_le : ∀ i, insI X L i ≤ i := by
  intro i
  induction i with
  | zero => exact Nat.le_refl _
  | succ i ih => rw [insI]; split <;> omega
theorem insI_R : ∀ i, i ≤ L.length → insR X (L.take i).reverse (L.drop i) = L.take (insI X L i) ++ X :: L.drop (insI X L i) := by
  intro i
  induction i with
  | zero => intro _; rfl
  | succ i ih =>
    intro hi
    have e : L.getD i (0, 0, 0) = L[i] := by rw [List.getD_eq_getElem?_getD, List.getElem?_eq_getElem (by omega)]; rfl
    rw [List.take_succ_eq_append_getElem (by omega), List.reverse_append, insI, e]
    show insR X (L[i] :: (L.take i).reverse) _ = _
    rw [insR]
    by_cases p : msLt X L[i] = true
    · rw [if_pos p, if_pos p, ← ih (by omega), List.drop_eq_getElem_cons (l := L) (i := i) (by omega)]
    · rw [if_neg p, if_neg p, List.reverse_reverse, List.take_succ_eq_append_getElem (by omega), List.append_assoc]
      rfl
theorem insI_M : insM X L = L.take (insI X L L.length) ++ X :: L.drop (insI X L L.length) := by
  rw [← insI_R L.length (Nat.le_refl _), List.take_length, List.drop_length]
  rfl
theorem grw_b {len c n s n' s' c' : Nat} (g : grw len c n s n' s' c') (h0 : len ≤ c) : n ≤ n' ∧ n' ≤ n + 1 ∧ s ≤ s' ∧ s' + 4 * c ≤ s + 4 * c' ∧ c ≤ c' ∧ (c' ≤ c ∨ c' ≤ 2 * len + 10) ∧ s' ≤ s + 2 * len + 10 ∧ len < c' := by
  unfold grw gLn at g
  rcases g with ⟨g1, g2, g3, g4⟩ | ⟨g1, g2, g3, g4⟩
  · omega
  · rcases g4 with g4 | g4
    · split at g4 <;> omega
    · omega
theorem CR.cp (c : CR h v) (k : hK v.1 l = 4) : (vLs v l).length ≤ vCp v l := by
  obtain ⟨e, ⟨a1, a2, a3, a4, a5, a6, a7, a8⟩, k46, le, lc, cb, ena⟩ := c.ls k
  omega
theorem c_misL (c : CR h v) (ku : hK v.1 u = 5) (ru : hR v.1 u 5 = some l) {es : List Nat} (m : MiE v l es) (ka : hK v.1 a = 17) (hl : es.length ≤ 15000) {l1 l2 l3 : Option am_V} : ∀ i, i ≤ es.length →
    (Rn r 130 21 [some (vR (some u)), l1, l2, l3, some (vR (some a)), some (vI (iI i))] [] h Q ↔ Rn r 130 54 [some (vR (some u)), l1, l2, l3, some (vR (some a)), some (vI (iI (insI (rdM v a) (es.map (rdM v)) i)))] [] h Q) := by
  obtain ⟨kl, m1, m2⟩ := m
  have ku1 := c.kk ku (by decide)
  have kl1 := c.kk kl (by decide)
  have ka1 := c.kk ka (by decide)
  have ru1 : hR h u 5 = some l := by rw [c.rr ku rfl]; exact ru
  intro i
  induction i with
  | zero =>
    intro _
    rw [sX3_mistake_21, sX3_mistake_23, if_pos (by decide)]
    rfl
  | succ i ih =>
    intro hi
    have em : i + 1 = es.length ∨ i < es.length := by omega
    have g : (vLs v l).getD ((i : Int).toNat) none = some es[i] := by
      rw [m1, Int.toNat_natCast, List.getD_eq_getElem?_getD, List.getElem?_map, List.getElem?_eq_getElem (by omega)]
      rfl
    have ke := m2 es[i] (List.getElem_mem _)
    have e1 : iI ((i + 1 : Nat) : Int) - (1 : Int32) = iI i := by rw [i_1, iI_sub]; congr 1; omega
    have e2 : iI ((i + 1 : Nat) : Int) + (-1 : Int32) = iI i := by rw [i_m1, iI_add]; congr 1; omega
    have e : (es.map (rdM v)).getD i (0, 0, 0) = rdM v es[i] := by rw [List.getD_eq_getElem?_getD, List.getElem?_map, List.getElem?_eq_getElem (by omega)]; rfl
    have gt : ∀ Q, Cl r 43 [vR (some l), vI (iI (i : Int))] h Q ↔ _ := fun Q => v_get c kl (k := (i : Int)) (by omega) (by rw [m1, List.length_map]; omega)
    have ah : ∀ Q, Cl r 170 [vR (some a), vR (some es[i])] h Q ↔ _ := fun Q => c_isAhead c ka ke
    rw [sX3_mistake_21, sX3_mistake_23, if_neg (by rw [i_0, iI_le (by omega) (by omega) (by omega) (by omega)]; omega), sX3_mistake_26, sX3_mistake_28, sX3_mistake_29 ku1, ru1, sX3_mistake_32, sX3_mistake_34, sX3_mistake_35, e1, sX3_mistake_36 kl1, gt, g, Kt_v, sX3_mistake_39 (by rw [c.kk ke (by decide)]; decide), sX3_mistake_42 ka1, ah, Kt_v, sX3_mistake_45, insI, e, i_0]
    by_cases p : msLt (rdM v a) (rdM v es[i]) = true
    · rw [if_neg (fun z => bI_0.mp z p), sX3_mistake_48, e2, sX3_mistake_51, if_pos p]
      exact ih (by omega)
    · rw [if_pos (bI_0.mpr p), if_neg p]
theorem c_mistake (c : CR h v) (ku : hK v.1 u = 5) (ru : hR v.1 u 5 = some l) (m : MiL v l L) (hl : L.length ≤ 15000)
    (q : ∀ h' v', CR h' v' → Fw (fun b k => b = l ∧ k = 99) v v' → MiL v' l (insM (x.toInt, (y.toInt, z.toInt)) L) → hN v'.1 ≤ hN v.1 + 2 → hS v.1 ≤ hS v'.1 → hS v'.1 + 4 * vCp v l ≤ hS v.1 + 4 * vCp v' l + 3 → vCp v l ≤ vCp v' l → (vCp v' l ≤ vCp v l ∨ vCp v' l ≤ 2 * L.length + 10) → Q (Sum.inl none) h') : Cl r 130 [vR (some u), vI x, vI y, vI z] h Q := by
  obtain ⟨es, ⟨kl, m1, m2⟩, rfl⟩ := m
  rw [List.length_map] at hl
  have c0 := CR_nw (m := 17) (n := 3) c rfl
  have nn : hN h = hN v.1 := c.hn
  have kn : hK (vnw v 17 3).1 (hN v.1) = 17 := by rw [vnw_1, hK_newC, if_pos rfl]
  have lt : ∀ {b n}, hK v.1 b = n → n ≠ 0 → b ≠ hN v.1 := fun e n0 w => by have := hK_lt e n0; omega
  have c1 := CR_pI (k := 0) (x := x) c0 kn rfl
  have c2 := CR_pI (k := 1) (x := y) c1 (by exact kn) rfl
  have c3 := CR_pI (k := 2) (x := z) c2 (by exact kn) rfl
  generalize ev : vpI (vpI (vpI (vnw v 17 3) (hN v.1) 0 x) (hN v.1) 1 y) (hN v.1) 2 z = w at c3
  have F : Fw (fun _ _ => False) v w := by
    rw [← ev]
    exact (((Fw.refl.nw).pI (Or.inl (Nat.le_refl _))).pI (Or.inl (Nat.le_refl _))).pI (Or.inl (Nat.le_refl _))
  have wn : hN w.1 = hN v.1 + 1 := by rw [← ev]; exact hN_newC (c := 17)
  have ws : hS w.1 = hS v.1 + 3 := by rw [← ev]; exact hS_newC (c := 17)
  have wc : ∀ b, vCp w b = vCp v b := by intro b; rw [← ev]; rfl
  have wl : ∀ b, vLs w b = vLs v b := by intro b; rw [← ev]; rfl
  have kw : hK w.1 (hN v.1) = 17 := by rw [← ev]; exact kn
  have rw_ : rdM w (hN v.1) = (x.toInt, (y.toInt, z.toInt)) := by
    rw [← ev]
    simp [rdM, vpI, hI_putI]
  have kuw := F.kk ku (by decide)
  have klw := F.kk kl (by decide)
  have ruw : hR w.1 u 5 = some l := by rw [(F.ff (hK_lt ku (by decide)) (fun z => z)).2.2]; exact ru
  have mw : MiE w l es := ⟨klw, by rw [wl]; exact m1, fun e he => F.kk (m2 e he) (by decide)⟩
  have rr : ∀ e, e ∈ es → rdM w e = rdM v e := fun e he => by
    have f := fun k => (F.ff (k := k) (hK_lt (m2 e he) (by decide)) (fun z => z)).1
    unfold rdM
    rw [f, f, f]
  have km : es.map (rdM w) = es.map (rdM v) := List.map_congr_left rr
  have kn0 : hK (newC h 17 3) (hN h) = 17 := by rw [hK_newC, if_pos rfl]
  rw [eX3_mistake, sX3_mistake_0, sX3_mistake_3, sX3_mistake_4, sX3_mistake_5, sX3_mistake_6, sX3_mistake_7 (by omega) (by omega), c_iMi kn0, Kt_0, sX3_mistake_10, sX3_mistake_12, nn]
  rw [← nn] at c3
  rw [nn] at c3
  have ku1 := c3.kk kuw (by decide)
  have kl1 := c3.kk klw (by decide)
  have ru1 := (c3.rr (k := 5) kuw rfl).trans ruw
  have sz : ∀ Q, Cl r 34 [vR (some l)] _ Q ↔ _ := fun Q => v_size c3 klw
  have lw : (vLs w l).length = es.length := by rw [wl, m1, List.length_map]
  rw [sX3_mistake_13 ku1, ru1, sX3_mistake_16 kl1, sz, Kt_v, sX3_mistake_19, lw, c_misL c3 kuw ruw mw kw hl es.length (Nat.le_refl _), sX3_mistake_54, sX3_mistake_55 ku1, ru1, sX3_mistake_58, sX3_mistake_60, sX3_mistake_62 kl1]
  have ile : insI (rdM w (hN v.1)) (es.map (rdM w)) es.length ≤ es.length := insI_le _
  refine v_ins c3 klw (z := some (hN v.1)) ⟨by rw [kw]; decide, by rw [kw]; decide⟩ (by omega) (by rw [lw]; exact ile) ?_
  intro h' n' s' c' cr g
  rw [Kt_0, sX3_mistake_65]
  obtain ⟨g1, g2, g3, g4, g5, g6, g7, g8⟩ := grw_b g (c3.cp klw)
  rw [wc] at g4 g5 g6
  rw [lw] at g6 g7 g8
  have F2 : Fw (fun b k => b = l ∧ k = 99) v (vsL (vbm w n' s') l ((vLs w l).take (insI (rdM w (hN v.1)) (es.map (rdM w)) es.length) ++ some (hN v.1) :: (vLs w l).drop (insI (rdM w (hN v.1)) (es.map (rdM w)) es.length)) c') :=
    ((F.mono (fun _ _ z => z.elim)).bm (by omega)).sL (Or.inr ⟨rfl, rfl⟩)
  have cc : vCp (vsL (vbm w n' s') l ((vLs w l).take (insI (rdM w (hN v.1)) (es.map (rdM w)) es.length) ++ some (hN v.1) :: (vLs w l).drop (insI (rdM w (hN v.1)) (es.map (rdM w)) es.length)) c') l = c' := if_pos rfl
  refine q h' _ cr F2 ⟨es.take (insI (rdM w (hN v.1)) (es.map (rdM w)) es.length) ++ hN v.1 :: es.drop (insI (rdM w (hN v.1)) (es.map (rdM w)) es.length), ⟨F2.kk kl (by decide), ?_, ?_⟩, ?_⟩ ?_ ?_ ?_ ?_ ?_
  · rw [vLs_sL, if_pos rfl, wl, m1, List.map_append, List.map_cons, List.map_take, List.map_drop]
  · intro e he
    rcases List.mem_append.mp he with he | he
    · exact F2.kk (m2 e (List.mem_of_mem_take he)) (by decide)
    · rcases List.mem_cons.mp he with he | he
      · rw [he]
        show hK (bmp w.1 n' s') (hN v.1) = 17
        rw [hK_bmp (by omega)]
        exact kw
      · exact F2.kk (m2 e (List.mem_of_mem_drop he)) (by decide)
  · have same : ∀ e, rdM (vsL (vbm w n' s') l ((vLs w l).take (insI (rdM w (hN v.1)) (es.map (rdM w)) es.length) ++ some (hN v.1) :: (vLs w l).drop (insI (rdM w (hN v.1)) (es.map (rdM w)) es.length)) c') e = rdM w e := fun e => rfl
    rw [← rw_, ← km, insI_M, List.length_map, List.map_append, List.map_cons, List.map_take, List.map_drop]
    rfl
  · show n' ≤ _
    omega
  · show hS v.1 ≤ s'
    omega
  · rw [cc]
    show s' + _ ≤ _
    omega
  · rw [cc]
    exact g5
  · rw [cc, List.length_map]
    exact g6
end MIS
