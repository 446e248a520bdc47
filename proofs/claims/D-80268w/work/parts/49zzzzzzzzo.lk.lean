/-! COMPONENT, 106: names of methods get what they mean (method, 136) *-/
/-- what linking may change, by kinds of cells -/
def XLk (v : vT) (a _k : Nat) : Prop := hK v.1 a = 4 ∨ hK v.1 a = 18 ∨ (30 ≤ hK v.1 a ∧ hK v.1 a ≤ 38) ∨ hK v.1 a = 21 ∨ hK v.1 a = 22
theorem XLk_tr {v v' v'' : vT} (f : Fw (XLk v) v v') (g : Fw (XLk v') v' v'') : Fw (XLk v) v v'' := f.tr2 g (fun a k y => by
  by_cases l : a < hN v.1
  · right
    unfold XLk at y ⊢
    rw [(f.2.2 a l).1] at y
    exact y
  · left; omega)
/-- a method that is named at p is not known -/
def mM1 (U : tSt) (w x p : Int) : List tMi := if mO U w x = -1 then [(1, (p, -1))] else []
section LKA
variable {R : Nat → Nat} {A : Nat → Int → Nat} {T : Nat → Nat} {w p0 x p : Int} {h : am_H} {v v' : vT} {U : tSt} {r a : Nat} {L : List tMi} {oc ov : Int → Option Nat} {cl : Int → List (Option Nat)} {Q : am_O → am_H → Prop} {X : Nat → Nat → Prop} {z t0 : Nat}
/-- a unit that was read, in the reader's hand -/
def LKS (R : Nat → Nat) (A : Nat → Int → Nat) (T : Nat → Nat) (w p0 : Int) (v : vT) (U : tSt) (oc : Int → Option Nat) (cl : Int → List (Option Nat)) (ov : Int → Option Nat) (L : List tMi) : Prop := GU R A T w p0 v U oc cl ov ∧ GL R A T w v U ∧ ML v (R 9) (insA [] L) ∧ RUn v (R 0) (R 3) (R 5) (R 9)
theorem GL_a (g : GL R A T w v U) (f : FA X v v' T (R 9) z t0) (k0 : hK v.1 (R 0) = 2) (k3 : hK v.1 (R 3) = 5) (x0 : ∀ k, ¬ X (R 0) k) : GL R A T w v' U := by
  obtain ⟨⟨a1, a2, a3⟩, ⟨b1, b2, b3⟩, ⟨c1, c2⟩, ⟨d1, d2, d3⟩, ⟨i1, i2, i3⟩, ⟨j1, j2⟩, ⟨t1, t2, t3, t4, t5, t6, t7⟩, ⟨z1, z2, z3, z4, z5, z6, z7, z8, z9, z10, z11⟩, gz⟩ := g
  have r0 := fun k => (f.1.ff (hK_lt k0 (by decide)) (x0 k)).2.2
  have il : ∀ {l : Nat} {N : List Int}, T l = 3 → l ≠ R 9 → IL v l N → IL v' l N := fun {l N} tl nl q => by
    obtain ⟨q1, q2, q3⟩ := q
    have e : vLs v' l = vLs v l := f.lc q1 (by omega) nl (by omega)
    refine ⟨f.1.kk q1 (by decide), by rw [e]; exact q2, fun i hi => ?_⟩
    obtain ⟨o, o1, o2⟩ := q3 i hi
    exact ⟨o, by rw [e]; exact o1, isIg_a f o2⟩
  have ls : ∀ {l : Nat}, hK v.1 l = 4 → T l = 3 → l ≠ R 9 → vLs v' l = vLs v l := fun {l} e tl nl => f.lc e (by omega) nl (by omega)
  exact ⟨⟨by rw [(f.ff (k := 4) k3 (by decide)).2.2]; exact a1, f.1.kk a2 (by decide), by rw [ls a2 t1 z1]; exact a3⟩, ⟨by rw [r0 10]; exact b1, f.1.kk b2 (by decide), by rw [ls b2 t3 z7.symm]; exact b3⟩, ⟨by rw [r0 11]; exact c1, il t4 z8.symm c2⟩, ⟨by rw [r0 12]; exact d1, f.1.kk d2 (by decide), by rw [ls d2 t5 z9.symm]; exact d3⟩, ⟨by rw [r0 13]; exact i1, f.1.kk i2 (by decide), by rw [ls i2 t6 z10.symm]; exact i3⟩, ⟨by rw [r0 17]; exact j1, il t7 z11.symm j2⟩, ⟨t1, t2, t3, t4, t5, t6, t7⟩, ⟨z1, z2, z3, z4, z5, z6, z7, z8, z9, z10, z11⟩, gz⟩
/-- the mistakes alone -/
theorem LS_mi (ls : LKS R A T w p0 v U oc cl ov L) {xs : List tMi} (f : Fw (fun b k => b = R 9 ∧ k = 99) v v') (m : MiA v v' (R 9) (insA [] L) xs) : LKS R A T w p0 v' U oc cl ov (L ++ xs) ∧ RM (R 9) v v' (2 * xs.length) (3 * xs.length) ∧ Fw (XLk v) v v' := by
  obtain ⟨gu, gl, ml, ru⟩ := ls
  obtain ⟨m1, m2⟩ := ML_add ml m f.1
  have k9 := gu.2.2.2.1.2.2.2.2
  have hx : ∀ a k, (a = R 9 ∧ k = 99) → a < hN v.1 → XA v T (R 9) (hN v.1) 0 a k := fun a k y _ => Or.inl (Or.inr (Or.inr (Or.inr (Or.inr (Or.inr (Or.inr (Or.inl y)))))))
  have fa : FA (fun b k => b = R 9 ∧ k = 99) v v' T (R 9) (hN v.1) 0 := ⟨f, hx, gu.2.2.2.1.1.1, k9⟩
  have n0 : ∀ k, ¬ (R 0 = R 9 ∧ k = 99) := fun k y => by have := ru.1; rw [y.1, k9] at this; exact absurd this (by decide)
  have n3 : ∀ k, ¬ (R 3 = R 9 ∧ k = 99) := fun k y => by have := ru.2.2.1; rw [y.1, k9] at this; exact absurd this (by decide)
  refine ⟨⟨GU_a gu f hx (fun s hs => Or.inl ⟨?_, by omega, rfl, rfl⟩) (fun m h0 h1 => ?_), GL_a gl fa ru.1 ru.2.2.1 n0, by rw [insA_app]; exact m1, RUn_fw f ru (n0 7) (fun k _ => n3 k)⟩, m2, f.mono (fun a k y => Or.inl (by rw [y.1]; exact k9))⟩
  · have := (gu.2.2.2.2.1 s hs).1.1
    have := hK_lt (a := A 2 s) (h := v.1) rfl (by omega)
    omega
  · have mf := gu.2.2.1.2.2.2 m h0 h1
    rw [(f.ff (k := 6) (hK_lt mf.1 (by decide)) (fun y => by omega)).2.2]
    exact mf.2.2.2.2.2.2.1
theorem c_meth (c : CR h v) (ls : LKS R A T w p0 v U oc cl ov L) (hl : L.length ≤ 14000) (b9 : 0 ≤ U 9 w ∧ U 9 w ≤ 12) (t : TXn v (some a) x) (hp : -1 ≤ p ∧ p ≤ 100000)
    (q : ∀ h' v', CR h' v' → LKS R A T w p0 v' U oc cl ov (L ++ mM1 U w x p) → RM (R 9) v v' 2 3 → Fw (fun b k => b = R 9 ∧ k = 99) v v' → Q (Sum.inl (some (vR (optA (A 1) (mO U w x))))) h') : Cl (r + 1) 136 [vR (some (R 0)), vR (some a), vI (iI p)] h Q := by
  have ls' := ls
  obtain ⟨gu, gl, ml, y1, y2, y3, y4, y5, y6⟩ := ls'
  obtain ⟨a', ea, t1, t2, t3⟩ := t
  cases ea
  obtain ⟨_, ⟨m4, m5, m6⟩, _, m7⟩ := gu.2.2.1
  have mp : vMp v (R 7) (vTx v a) = optA (A 1) (mO U w x) := by rw [m5.2 _ t3, t2]
  have k1 := c.kk y1 (by decide)
  have k3 := c.kk y3 (by decide)
  have mb := mO_b (U := U) (w := w) (x := x) b9
  rw [eX1_method, sX1_method_0, sX1_method_1 k1, c.rr y1 rfl, y2, sX1_method_4 k3, c.rr y3 rfl, m4, sX1_method_7, sX1_method_8 (c.kk m5.1 (by decide))]
  refine v_mget c m5.1 (Or.inl t1) t3.1 (fun h' c' => ?_)
  have k1 := c'.kk y1 (by decide)
  have k3 := c'.kk y3 (by decide)
  rw [mp]
  by_cases e : mO U w x = -1
  · have e0 : optA (A 1) (mO U w x) = none := by unfold optA; rw [if_pos e]
    have ex : mM1 U w x p = [(1, (p, -1))] := by unfold mM1; rw [if_pos e]
    rw [ex, e0] at q
    rw [e0, Kt_v, sX1_method_11_n, sX1_method_14, sX1_method_15, sX1_method_16, if_neg (fun z => z rfl), sX1_method_19, sX1_method_20 k1, c'.rr y1 rfl, y2, sX1_method_23, sX1_method_24, sX1_method_25, sX1_method_26 k3, i_m1, i_1]
    refine c_mi1 c' y3 y6 ml.1 (by rw [insA_len]; simp; omega) (by omega) (by omega) (by omega) (fun h2 v2 c2 f2 m2 => ?_)
    rw [Kt_0, sX1_method_29, sX1_method_30]
    obtain ⟨l1, l2, l3⟩ := LS_mi ls f2 m2
    exact q h2 v2 c2 l1 l2 f2
  · have e0 : optA (A 1) (mO U w x) = some (A 1 (mO U w x)) := optA_s e
    have ex : mM1 U w x p = [] := by unfold mM1; rw [if_neg e]
    rw [ex, e0, List.append_nil] at q
    have k18 := (m7 (mO U w x) (by omega) (by omega)).1
    rw [e0, Kt_v, sX1_method_11 (by rw [c'.kk k18 (by decide)]; decide), sX1_method_14, sX1_method_15, sX1_method_16, if_pos (by simp), sX1_method_29, sX1_method_30]
    exact q h' v c' ls ⟨Nat.le_refl _, by omega, Nat.le_refl _, by omega, Nat.le_refl _⟩ Fw.refl
end LKA
