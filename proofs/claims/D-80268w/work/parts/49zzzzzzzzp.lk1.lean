/-! COMPONENT, 107: link: calls (pc 0-65) *-/
/-- what the calls of a list mean -/
def ocL (U : tSt) (w : Int) (A : Nat → Int → Nat) (D : List Int) (s : Int) : Option Nat := if s ∈ D then optA (A 1) (mO U w (U 25 s)) else none
def mL1 (U : tSt) (w s : Int) : List tMi := mM1 U w (U 25 s) (U 26 s)
section LK1
variable {R : Nat → Nat} {A : Nat → Int → Nat} {T : Nat → Nat} {w p0 : Int} {U : tSt} {r : Nat} {ov : Int → Option Nat} {cl : Int → List (Option Nat)} {Q : am_O → am_H → Prop} {l2 l3 : Option am_V}
theorem map_getD {α : Type} (f : Int → α) (D E : List Int) (s : Int) (d : α) : ((D ++ s :: E).map f).getD D.length d = f s := by
  rw [List.map_append, List.getD_eq_getElem?_getD, List.getElem?_append_right (by simp), List.length_map, Nat.sub_self]
  rfl
theorem mL1_len {s : Int} : (mL1 U w s).length ≤ 1 := by
  unfold mL1 mM1
  split
  · exact Nat.le_refl _
  · exact Nat.zero_le _
/-- one field of a statement is set -/
theorem LS_of {v : vT} {oc oc' : Int → Option Nat} {L : List tMi} {s : Int} {z : Option Nat} (ls : LKS R A T w p0 v U oc cl ov L) (hs : As w U s) (b19 : U 19 w ≤ 120) (s1 : U 20 s = 1) (h1 : oc' s = z) (h2 : ∀ t, t ≠ s → oc' t = oc t) : LKS R A T w p0 (vpR v (A 2 s) 6 z) U oc' cl ov L ∧ Fw (XLk v) v (vpR v (A 2 s) 6 z) := by
  obtain ⟨gu, gl, ml, ru⟩ := ls
  have k31 : hK v.1 (A 2 s) = 31 := ((gu.2.2.2.2.1 s hs).2.2.2.1 s1).1
  have f : Fw (fun a k => a = A 2 s ∧ k = 6) v (vpR v (A 2 s) 6 z) := Fw.refl.pR (Or.inr ⟨rfl, rfl⟩)
  have hx : ∀ a k, (a = A 2 s ∧ k = 6) → a < hN v.1 → XA v T (R 9) (A 2 s) 0 a k := fun a k y _ => Or.inr (Or.inl ⟨y.1, by rw [y.1, k31]; decide, by rw [y.1, k31]; decide, y.2⟩)
  have fa : FA (fun a k => a = A 2 s ∧ k = 6) v (vpR v (A 2 s) 6 z) T (R 9) (A 2 s) 0 := ⟨f, hx, gu.2.2.2.1.1.1, gu.2.2.2.1.2.2.2.2⟩
  have v6 : hR (vpR v (A 2 s) 6 z).1 (A 2 s) 6 = z := by rw [vpR_1, hR_putR, if_pos ⟨rfl, rfl⟩]
  have nk : ∀ {a n : Nat} {k : Nat}, hK v.1 a = n → n ≠ 31 → ¬ (a = A 2 s ∧ k = 6) := fun e hn y => by rw [y.1, k31] at e; omega
  refine ⟨⟨GU_a (oc' := oc') gu f hx (fun t ht => ?_) (fun m h0 h1 => ?_), GL_a gl fa ru.1 ru.2.2.1 (fun k => nk ru.1 (by decide)), ML_fw f ml (fun y => by omega) (fun a k y hk => by omega), RUn_fw f ru (nk ru.1 (by decide)) (fun k _ => nk ru.2.2.1 (by decide))⟩, f.mono (fun a k y => Or.inr (Or.inr (Or.inl ⟨by rw [y.1, k31]; decide, by rw [y.1, k31]; decide⟩)))⟩
  · by_cases e : t = s
    · right
      have x := (gu.2.2.2.2.1 s hs).2
      rw [e]
      obtain ⟨x0, x3, x1, x2, x4, x5, x7, x9, xa, xb, xn⟩ := x
      refine ⟨fun y => by omega, fun y => by omega, fun _ => ?_, fun y => by omega, fun y => by omega, fun y => by omega, fun y => by omega, fun y => by omega, fun y => by omega, fun y => by omega, fun y => by omega⟩
      obtain ⟨a1, a2, a3, a4⟩ := x1 s1
      have q := fun k (hk : k ≠ 6) => f.ff (k := k) (hK_lt k31 (by decide)) (fun y => hk y.2)
      refine ⟨f.kk k31 (by decide), by rw [(q 5 (by decide)).2.2]; exact TXn_a fa a2, by rw [v6, h1], by rw [(q 7 (by decide)).2.2]; exact a4⟩
    · left
      refine ⟨fun y => e (A2_inj (fun k hk => (gu.2.2.2.2.1 k hk).1) b19 ht hs y), by omega, h2 t e, rfl⟩
  · have mf := gu.2.2.1.2.2.2 m h0 h1
    rw [(f.ff (k := 6) (hK_lt mf.1 (by decide)) (nk mf.1 (by decide))).2.2]
    exact mf.2.2.2.2.2.2.1
theorem lk_1 (b9 : 0 ≤ U 9 w ∧ U 9 w ≤ 12) (b19 : U 19 w ≤ 120) (qv : QV U) : ∀ (E D : List Int) (h : am_H) (v : vT) (L : List tMi), stL U w (fun s => decide (U 20 s = 1)) = D ++ E → CR h v → LKS R A T w p0 v U (ocL U w A D) cl ov L → L.length + E.length ≤ 14000 →
    (∀ h' v', CR h' v' → LKS R A T w p0 v' U (ocL U w A (D ++ E)) cl ov (L ++ E.flatMap (mL1 U w)) → RM (R 9) v v' (2 * E.length) (3 * E.length) → Fw (XLk v) v v' → Rn (r + 1) 85 65 [some (vR (some (R 0))), some (vI (iI (D ++ E).length)), l2, l3] [] h' Q) → Rn (r + 1) 85 2 [some (vR (some (R 0))), some (vI (iI D.length)), l2, l3] [] h Q := by
  intro E
  induction E with
  | nil =>
    intro D h v L hC c ls hl q
    obtain ⟨gu, gl, ml, ru⟩ := id ls
    obtain ⟨b1, b2, b3⟩ := gl.2.1
    have k0 := ru.1
    rw [List.append_nil] at hC q
    have len : (vLs v (R 10)).length = D.length := by rw [b3, hC, List.length_map]
    have dl : D.length ≤ 120 := by
      rw [← hC]
      unfold stL
      refine Nat.le_trans (List.length_filter_le _ _) ?_
      rw [List.length_map, List.length_range]
      omega
    rw [sX1_link_2, sX1_link_3, sX1_link_4 (c.kk k0 (by decide)), c.rr k0 rfl, b1, sX1_link_7 (c.kk b2 (by decide)), v_size c b2, Kt_v, sX1_link_10, len, if_pos (by rw [iI_le (by omega) (by omega) (by omega) (by omega)]; exact Int.le_refl _)]
    exact q h v c (by simpa using ls) ⟨Nat.le_refl _, by simp, Nat.le_refl _, by simp, Nat.le_refl _⟩ Fw.refl
  | cons s E ih =>
    intro D h v L hC c ls hl q
    obtain ⟨gu, gl, ml, ru⟩ := id ls
    obtain ⟨b1, b2, b3⟩ := gl.2.1
    obtain ⟨c1, c2⟩ := gl.2.2.1
    have k0 := ru.1
    have len : (vLs v (R 10)).length = D.length + (E.length + 1) := by rw [b3, hC, List.length_map, List.length_append, List.length_cons]
    have dl : D.length + (E.length + 1) ≤ 120 := by
      rw [← len, b3, List.length_map]
      unfold stL
      refine Nat.le_trans (List.length_filter_le _ _) ?_
      rw [List.length_map, List.length_range]
      omega
    have hsA : As w U s ∧ U 20 s = 1 := by
      have : s ∈ stL U w (fun s => decide (U 20 s = 1)) := by rw [hC]; simp
      obtain ⟨x, y⟩ := stL_in.mp this
      exact ⟨x, by simpa using y⟩
    obtain ⟨a1, a2, a3, a4⟩ := (gu.2.2.2.2.1 s hsA.1).2.2.2.1 hsA.2
    have ge : (vLs v (R 10)).getD ((D.length : Int)).toNat none = some (A 2 s) := by rw [b3, hC, Int.toNat_natCast]; exact map_getD _ D E s none
    obtain ⟨i1, i2, i3⟩ := c2
    obtain ⟨e, e1, e2⟩ := i3 D.length (by rw [hC, List.length_map, List.length_append, List.length_cons]; omega)
    rw [hC, map_getD] at e2
    have len11 : (vLs v (R 11)).length = D.length + (E.length + 1) := by rw [i2, hC, List.length_map, List.length_append, List.length_cons]
    have e1' : (vLs v (R 11)).getD ((D.length : Int)).toNat none = some e := by rw [Int.toNat_natCast]; exact e1
    obtain ⟨ta, te, t1, t2, t3⟩ := a2
    have p26 := qv 26 s
    have ke : hK h e = 8 ∨ hK h e = 9 := by
      rcases e2.1 with z | z
      · exact Or.inl (c.kk z (by decide))
      · exact Or.inr (c.kk z (by decide))
    rw [sX1_link_2, sX1_link_3, sX1_link_4 (c.kk k0 (by decide)), c.rr k0 rfl, b1, sX1_link_7 (c.kk b2 (by decide)), v_size c b2, Kt_v, sX1_link_10, len, if_neg (by rw [iI_le (by omega) (by omega) (by omega) (by omega)]; omega), sX1_link_13, sX1_link_14 (c.kk k0 (by decide)), c.rr k0 rfl, b1, sX1_link_17, sX1_link_18 (c.kk b2 (by decide)), v_get c b2 (by omega) (by rw [len]; omega), Kt_v, ge, sX1_link_21 (by rw [c.kk a1 (by decide)]; decide), sX1_link_24, sX1_link_25, sX1_link_26 (c.kk k0 (by decide)), c.rr k0 rfl, b1, sX1_link_29, sX1_link_30 (c.kk b2 (by decide)), v_get c b2 (by omega) (by rw [len]; omega), Kt_v, ge, sX1_link_33 (by rw [c.kk a1 (by decide)]; decide), sX1_link_36 (c.kk a1 (by decide)), c.rr a1 rfl, te, sX1_link_39, sX1_link_40 (c.kk k0 (by decide)), c.rr k0 rfl, c1, sX1_link_43, sX1_link_44 (c.kk i1 (by decide)), v_get c i1 (by omega) (by rw [len11]; omega), Kt_v, e1', sX1_link_47 (by rcases ke with z | z <;> rw [z] <;> decide), sX1_link_50 (by omega) (by omega), v_intValue c e2, Kt_v, sX1_link_53 (c.kk k0 (by decide))]
    refine c_meth (x := U 25 s) c ls (by omega) b9 ⟨ta, rfl, t1, t2, t3⟩ ⟨p26.1, p26.2.2 rfl⟩ (fun h1 v1 c1' ls1 rm1 f1 => ?_)
    have a11 : hK v1.1 (A 2 s) = 31 := f1.kk a1 (by decide)
    rw [Kt_v, sX1_link_56 (c1'.kk a11 (by decide)), sX1_link_59, sX1_link_62]
    have c2' := CR_pR (k := 6) (z := optA (A 1) (mO U w (U 25 s))) c1' a11 rfl
    obtain ⟨ls2, f2⟩ := LS_of (oc' := ocL U w A (D ++ [s])) (z := optA (A 1) (mO U w (U 25 s))) ls1 hsA.1 b19 hsA.2 (by unfold ocL; rw [if_pos (by simp)]) (fun t ht => by
      unfold ocL
      by_cases y : t ∈ D
      · rw [if_pos y, if_pos (by simp [y])]
      · rw [if_neg y, if_neg (by simp [y, ht])])
    have f1' : Fw (XLk v) v v1 := f1.mono (fun a k y => Or.inl (by rw [y.1]; exact gu.2.2.2.1.2.2.2.2))
    have nn : (iI (D.length : Int) : Int32) + 1 = iI ((D ++ [s]).length : Int) := by
      rw [show (1 : Int32) = iI 1 from rfl, iI_add, List.length_append]
      rfl
    rw [nn]
    refine ih (D ++ [s]) _ _ _ (by rw [hC, List.append_assoc]; rfl) c2' ls2 ?_ (fun h' v' c' ls' rm' f' => ?_)
    · rw [List.length_append]
      have : (mL1 U w s).length ≤ 1 := mL1_len
      have hl' : L.length + (E.length + 1) ≤ 14000 := hl
      show L.length + (mL1 U w s).length + E.length ≤ 14000
      omega
    · have e3 : D ++ s :: E = D ++ [s] ++ E := by rw [List.append_assoc]; rfl
      rw [e3] at q
      refine q h' v' c' ?_ ?_ (XLk_tr (XLk_tr f1' f2) f')
      · have e4 : L ++ (s :: E).flatMap (mL1 U w) = L ++ mM1 U w (U 25 s) (U 26 s) ++ E.flatMap (mL1 U w) := by
          rw [List.flatMap_cons, List.append_assoc]
          rfl
        rw [e4]
        exact ls'
      · have rm2 : RM (R 9) v1 (vpR v1 (A 2 s) 6 (optA (A 1) (mO U w (U 25 s)))) 0 0 := ⟨Nat.le_refl _, by show ((hN v1.1 : Nat) : Int) ≤ _; omega, Nat.le_refl _, by show ((hS v1.1 : Nat) : Int) + 4 * vCp v1 (R 9) ≤ hS v1.1 + 4 * vCp v1 (R 9) + 0; omega, Nat.le_refl _⟩
        refine ((rm1.trans rm2).trans rm').le ?_ ?_
        · rw [List.length_cons]; omega
        · rw [List.length_cons]; omega
end LK1
