/-! JDK: lists, 9: one put in at a place, clearing *-/
section AL9
variable {r e a n i : Nat} {h : am_H} {v : vT} {Q : am_O → am_H → Prop} {x : Option Nat}
theorem nn_i {n : Nat} (h1 : n < 1000000) : (iI n).toNatClampNeg = n := by rw [iI_nat (by omega) (by omega)]; omega
theorem bd_i {n l : Nat} (h1 : n < l) (h2 : l < 1000000) : ¬ (iI n < 0 ∨ l ≤ (iI n).toNatClampNeg) := iI_bd (by omega) (by omega) (by omega)
theorem al_insT (hk : hK h e = 46) (hn : n < hL h e) (hl : hL h e ≤ 60000) (ha : hK h a = 4) (ok : okV h x) (hi : i ≤ n) :
    Rn r 171 38 [some (vR (some a)), some (vI (iI i)), some (vR x), some (vI (iI n)), some (vR (some e))] [] h Q ↔ Q (Sum.inl none) (putI (putR (cpyR h e i e (i + 1) (n - i)) e i x) a 2 (iI (n + 1))) := by
  have c1 : (iI i + (1 : Int32)) = iI ((i + 1 : Nat) : Int) := by rw [i_1, iI_add]; rfl
  have c2 : (iI n - iI i) = iI ((n - i : Nat) : Int) := by rw [iI_sub]; congr 1; omega
  have c3 : (iI n + (1 : Int32)) = iI (n + 1) := by rw [i_1, iI_add]
  rw [sJ5_add_3_38, sJ5_add_3_40, sJ5_add_3_41, sJ5_add_3_43, sJ5_add_3_44, sJ5_add_3_45, c1, sJ5_add_3_46, sJ5_add_3_47, sJ5_add_3_48, c2,
    sJ5_add_3_49_r ⟨by rw [i_0, iI_le (by omega) (by omega) (by omega) (by omega)]; omega, by rw [i_0, iI_le (by omega) (by omega) (by omega) (by omega)]; omega, by rw [i_0, iI_le (by omega) (by omega) (by omega) (by omega)]; omega, by rw [nn_i (by omega), nn_i (by omega)]; omega, by rw [nn_i (by omega), nn_i (by omega)]; omega⟩ ⟨Or.inl hk, hk⟩,
    nn_i (by omega), nn_i (by omega), nn_i (by omega), sJ5_add_3_52, sJ5_add_3_54, sJ5_add_3_55]
  have st : Rn r 171 56 [some (vR (some a)), some (vI (iI i)), some (vR x), some (vI (iI n)), some (vR (some e))] [vR x, vI (iI i), vR (some e)] (cpyR h e i e (i + 1) (n - i)) Q ↔ Rn r 171 57 [some (vR (some a)), some (vI (iI i)), some (vR x), some (vI (iI n)), some (vR (some e))] [] (putR (cpyR h e i e (i + 1) (n - i)) e i x) Q := by
    have b := bd_i (n := i) (l := hL (cpyR h e i e (i + 1) (n - i)) e) (by rw [hL_cpyR]; omega) (by rw [hL_cpyR]; omega)
    cases x with
    | none => rw [sJ5_add_3_56_n (by exact Or.inl hk) (by exact b), nn_i (by omega)]
    | some w => rw [sJ5_add_3_56 (by exact Or.inl ⟨hk, ok.1, ok.2.1⟩) (by exact b), nn_i (by omega)]
  rw [st, sJ5_add_3_57, sJ5_add_3_58, sJ5_add_3_59, sJ5_add_3_60, c3, sJ5_add_3_61 (by exact ha), sJ5_add_3_64]
theorem al_ins (ha : hK h a = 4) (an : a < hN h) (hr : hR h a 1 = some e) (hs : hI h a 2 = iI n) (hk : hK h e = 46 ∨ (hK h e = 47 ∧ hL h e = 0)) (en : e < hN h) (hl : hL h e ≤ 30000) (hn : n ≤ hL h e) (ok : okV h x) (hi : i ≤ n) :
    Cl r 171 [vR (some a), vI (iI i), vR x] h Q ↔ Q (Sum.inl none) (aI (putI h a 0 (hI h a 0 + iI 1)) a e n i x) := by
  have c0 : iI n ≠ iI (hL h e) ↔ n ≠ hL h e := by
    rw [ne_eq, iI_eq (by omega) (by omega) (by omega) (by omega)]
    omega
  have c1 : ¬ iI n < iI i := by rw [iI_lt (by omega) (by omega) (by omega) (by omega)]; omega
  have c2 : (0 : Int32) ≤ iI i := by rw [i_0, iI_le (by omega) (by omega) (by omega) (by omega)]; omega
  have k1 : 40 ≤ hK h e := by rcases hk with z | z <;> omega
  have k2 : hK h e ≤ 49 := by rcases hk with z | z <;> omega
  have ok' : okV (putI h a 0 (hI h a 0 + iI 1)) x := by
    cases x with
    | none => exact trivial
    | some v => exact ok
  rw [eJ5_add_3, sJ5_add_3_0, sJ5_add_3_1, sJ5_add_3_2 ha, eJ5_rangeCheckForAdd]
  simp only [sJ5_rangeCheckForAdd_0, sJ5_rangeCheckForAdd_1, sJ5_rangeCheckForAdd_2, sJ5_rangeCheckForAdd_5, sJ5_rangeCheckForAdd_8, sJ5_rangeCheckForAdd_9, sJ5_rangeCheckForAdd_15, sJ5_rangeCheckForAdd_16, sJ5_rangeCheckForAdd_17, sJ5_rangeCheckForAdd_25, ha, hs, c1, c2, if_false, if_true, Kt_0]
  rw [sJ5_add_3_5, sJ5_add_3_6, sJ5_add_3_7 ha, sJ5_add_3_10, sJ5_add_3_11, i_1, sJ5_add_3_12 ha, sJ5_add_3_15, sJ5_add_3_16 (by exact ha), hI_putI, if_neg (fun z => absurd z.2 (by decide)), hs, sJ5_add_3_19, sJ5_add_3_20, sJ5_add_3_21, sJ5_add_3_22 (by exact ha), hR_putI, hr, sJ5_add_3_25, sJ5_add_3_26, sJ5_add_3_28 (by exact k1) (by exact k2), hL_putI, iI_nI, sJ5_add_3_29]
  unfold aI aG
  by_cases p : n = hL h e
  · rw [if_neg (fun z => c0.mp z p), if_pos (show n = hL (putI h a 0 (hI h a 0 + iI 1)) e from p), sJ5_add_3_32, sJ5_add_3_33 (by exact ha), al_grow (h := putI h a 0 (hI h a 0 + iI 1)) ha (by show a ≠ hN h; omega) hr (by rw [hI_putI, if_neg (fun z => absurd z.2 (by decide)), hs, p]; rfl) (by rcases hk with z | z; exact Or.inl z; exact Or.inr z.1) (by show e ≠ hN h; omega) hl, Kt_v, sJ5_add_3_36]
    refine al_insT (by rw [hK_putR]; exact hK_gRn) ?_ ?_ (by rw [hK_putR, hK_gR (by show a ≠ hN h; omega)]; exact ha) ?_ hi
    · have gl := gLn_le (hL h e)
      rw [hL_putR, hL_gRn, hL_putI]
      split <;> omega
    · have gl := gLn_le (hL h e)
      rw [hL_putR, hL_gRn, hL_putI]
      split <;> omega
    · cases x with
      | none => exact trivial
      | some v =>
        obtain ⟨o1, o2, o3⟩ := ok
        refine ⟨?_, ?_, ?_⟩
        · rw [hK_putR, hK_gR (by show v ≠ hN h; omega)]; exact o1
        · rw [hK_putR, hK_gR (by show v ≠ hN h; omega)]; exact o2
        · rw [hN_putR, hN_gR]
          show v < hN h + 1
          omega
  · rw [if_pos (c0.mpr p), if_neg (show ¬ n = hL (putI h a 0 (hI h a 0 + iI 1)) e from p)]
    have k46 : hK h e = 46 := by
      rcases hk with z | z
      · exact z
      · omega
    exact al_insT k46 (by show n < hL h e; omega) (by show hL h e ≤ _; omega) ha ok' hi
theorem v_ins {z : Option Nat} (c : CR h v) (ha : hK v.1 a = 4) (o : okW v z) (hl : (vLs v a).length ≤ 15000) (hi : i ≤ (vLs v a).length)
    (q : ∀ h' n' s' c', CR h' (vsL (vbm v n' s') a ((vLs v a).take i ++ z :: (vLs v a).drop i) c') → grw (vLs v a).length (vCp v a) (hN v.1) (hS v.1) n' s' c' → Q (Sum.inl none) h') : Cl r 171 [vR (some a), vI (iI i), vR z] h Q := by
  obtain ⟨e, ⟨a1, a2, a3, a4, a5, a6, a7, a8⟩, k46, le, lc, cb, ena⟩ := c.ls ha
  have la := c.lt (a := a) (by rw [ha]; decide)
  rw [al_ins a1 la a3 a2 (by rcases k46 with z | z; exact Or.inl z; exact Or.inr ⟨z.1, z.2.1⟩) le (by omega) a6 (o.ok c) hi]
  obtain ⟨n', s', c', w1, w2⟩ := CR_ins (x := hI h a 0 + iI 1) (z := z) c ha a3 hl hi
  exact q _ n' s' c' w1 w2
/-! clearing: the row's places are set to null, one by one -/
def aC (h : am_H) (e : Nat) : Nat → Nat → am_H
  | 0, _ => h
  | d + 1, i => aC (putR h e i none) e d (i + 1)
theorem aC_hd (h : am_H) (e d i : Nat) : (aC h e d i).1 = h.1 ∧ (aC h e d i).2.1 = h.2.1 ∧ (∀ b k, hI (aC h e d i) b k = hI h b k ∧ hJ (aC h e d i) b k = hJ h b k) ∧ ∀ b k, b ≠ e → hR (aC h e d i) b k = hR h b k := by
  induction d generalizing h i with
  | zero => exact ⟨rfl, rfl, fun _ _ => ⟨rfl, rfl⟩, fun _ _ _ => rfl⟩
  | succ d ih =>
    obtain ⟨i1, i2, i3, i4⟩ := ih (putR h e i none) (i + 1)
    refine ⟨i1, i2, i3, fun b k q => ?_⟩
    rw [aC, i4 b k q, hR_putR, if_neg (am_ne q)]
theorem al_clrT {d : Nat} (hk : hK h e = 46) (hl : hL h e ≤ 60000) (hn : i + d ≤ hL h e) :
    Rn r 79 27 [some (vR (some a)), some (vR (some e)), some (vI (iI (i + d))), some (vI (iI i))] [] h Q ↔ Q (Sum.inl none) (aC h e d i) := by
  induction d generalizing h i with
  | zero =>
    rw [sJ5_clear_27, sJ5_clear_28, sJ5_clear_29, if_pos (by rw [iI_le (by omega) (by omega) (by omega) (by omega)]; omega), sJ5_clear_42]
    rfl
  | succ d ih =>
    have b := bd_i (n := i) (l := hL h e) (by omega) (by omega)
    have c1 : iI i + (1 : Int32) = iI ((i + 1 : Nat) : Int) := by rw [i_1, iI_add]; rfl
    rw [sJ5_clear_27, sJ5_clear_28, sJ5_clear_29, if_neg (by rw [iI_le (by omega) (by omega) (by omega) (by omega)]; omega), sJ5_clear_32, sJ5_clear_33, sJ5_clear_34, sJ5_clear_35_n (Or.inl hk) b, nn_i (by omega), sJ5_clear_36, c1, sJ5_clear_39]
    have := ih (h := putR h e i none) (i := i + 1) hk hl (by rw [hL_putR]; omega)
    rw [show ((i : Int) + ((d + 1 : Nat) : Int)) = ((i + 1 : Nat) : Int) + (d : Int) by omega]
    exact this
theorem al_clear (ha : hK h a = 4) (hr : hR h a 1 = some e) (hs : hI h a 2 = iI n) (hk : hK h e = 46 ∨ (hK h e = 47 ∧ hL h e = 0)) (hl : hL h e ≤ 30000) (hn : n ≤ hL h e) :
    Cl r 79 [vR (some a)] h Q ↔ Q (Sum.inl none) (aC (putI (putI h a 0 (hI h a 0 + iI 1)) a 2 (iI 0)) e n 0) := by
  rw [eJ5_clear, sJ5_clear_0, sJ5_clear_1, sJ5_clear_2 ha, sJ5_clear_5, sJ5_clear_6, i_1, sJ5_clear_7 ha, sJ5_clear_10, sJ5_clear_11 (by exact ha), hR_putI, hr, sJ5_clear_14, sJ5_clear_15, sJ5_clear_16 (by exact ha), hI_putI, if_neg (fun z => absurd z.2 (by decide)), hs, sJ5_clear_19, sJ5_clear_20, sJ5_clear_21, sJ5_clear_22, i_0, sJ5_clear_23 (by exact ha), sJ5_clear_26]
  rcases hk with hk | hk
  · have := al_clrT (r := r) (a := a) (Q := Q) (i := 0) (d := n) (h := putI (putI h a 0 (hI h a 0 + iI 1)) a 2 (iI 0)) (e := e) hk (by show hL h e ≤ _; omega) (by show 0 + n ≤ hL h e; omega)
    rw [show ((0 : Nat) : Int) + (n : Int) = (n : Int) by omega] at this
    exact this
  · have n0 : n = 0 := by omega
    subst n0
    rw [sJ5_clear_27, sJ5_clear_28, sJ5_clear_29, if_pos (by decide), sJ5_clear_42]
    rfl
theorem v_clear (c : CR h v) (ha : hK v.1 a = 4) (q : ∀ h', CR h' (vsL (vbm v (hN v.1) (hS v.1)) a [] (vCp v a)) → Q (Sum.inl none) h') : Cl r 79 [vR (some a)] h Q := by
  obtain ⟨e, ⟨a1, a2, a3, a4, a5, a6, a7, a8⟩, k46, le, lc, cb, ena⟩ := c.ls ha
  rw [al_clear a1 a3 a2 (by rcases k46 with z | z; exact Or.inl z; exact Or.inr ⟨z.1, z.2.1⟩) (by omega) a6]
  obtain ⟨i1, i2, i3, i4⟩ := aC_hd (putI (putI h a 0 (hI h a 0 + iI 1)) a 2 (iI 0)) e (vLs v a).length 0
  have kk : ∀ b, hK (aC (putI (putI h a 0 (hI h a 0 + iI 1)) a 2 (iI 0)) e (vLs v a).length 0) b = hK h b := fun b => by unfold hK; rw [i1, i2]; rfl
  have ll : ∀ b, hL (aC (putI (putI h a 0 (hI h a 0 + iI 1)) a 2 (iI 0)) e (vLs v a).length 0) b = hL h b := fun b => by unfold hL; rw [i2]; rfl
  have n1 : hN (aC (putI (putI h a 0 (hI h a 0 + iI 1)) a 2 (iI 0)) e (vLs v a).length 0) = hN h := by unfold hN; rw [i1]; rfl
  have s1 : hS (aC (putI (putI h a 0 (hI h a 0 + iI 1)) a 2 (iI 0)) e (vLs v a).length 0) = hS h := by unfold hS; rw [i1]; rfl
  have e1 : ∀ k, hE (aC (putI (putI h a 0 (hI h a 0 + iI 1)) a 2 (iI 0)) e (vLs v a).length 0) k = hE h k := fun k => by unfold hE; rw [i1]; rfl
  refine q _ ?_
  have key := CR_ls (e' := e) (l := vCp v a) (L' := []) (h' := aC (putI (putI h a 0 (hI h a 0 + iI 1)) a 2 (iI 0)) e (vLs v a).length 0) c ha a3 (by rw [n1]; exact Nat.le_refl _) (by rw [n1]; omega) (fun b hb => ⟨kk b, ll b⟩) e1 ?_ (Or.inl ⟨rfl, rfl⟩) cb (Nat.zero_le _) (by rw [i4 a 1 (Ne.symm ena), hR_putI, hR_putI]; exact a3) (by rw [(i3 a 2).1, hI_putI, if_pos ⟨rfl, rfl⟩]; rfl) (fun i hi => absurd hi (Nat.not_lt_zero _))
  · rw [n1, s1, c.hn, c.hs] at key
    exact key
  · intro b hb q1 q2 k
    rw [(i3 b k).1, (i3 b k).2, hI_putI, if_neg (am_ne q1), hI_putI, if_neg (am_ne q1)]
    refine ⟨rfl, rfl, ?_⟩
    by_cases q3 : b = e
    · rcases k46 with z | z
      · rcases q2 with q2 | q2
        · exact absurd q3 q2
        · exact absurd z q2
      · have : (vLs v a).length = 0 := by omega
        rw [this]
        rfl
    · rw [i4 b k q3]
      rfl
theorem v_nL (c : CR h v) (q : ∀ h', CR h' (vsL (vbm (vnw v 4 3) (hN v.1 + 1) (hS v.1 + 3)) (hN v.1) [] 0) → Q (Sum.inl none) h') : Cl r 76 [vR (some (hN h))] (newC h 4 3) Q := by
  rw [al_init (by rw [hK_newC, if_pos rfl])]
  exact q _ (CR_nL c)
theorem v_nL2 (c : CR h v) (n1 : 1 ≤ n) (n2 : n ≤ 30000) (q : ∀ h', CR h' (vsL (vbm (vnw v 4 3) (hN v.1 + 2) (hS v.1 + 3 + n)) (hN v.1) [] n) → Q (Sum.inl none) h') : Cl r 172 [vR (some (hN h)), vI (iI n)] (newC h 4 3) Q := by
  rw [al_init2 (by rw [hK_newC, if_pos rfl]) (by rw [hN_newC]; omega) n1 (by omega)]
  exact q _ (CR_nL2 c n2)
end AL9
