/-! COMPONENT, 14: a name with what it means is put into a list *-/
/-- room: n cells and s slots, beside what the mistakes' list takes -/
def RM (lx : Nat) (v v' : vT) (n s : Int) : Prop := hN v.1 ≤ hN v'.1 ∧ (hN v'.1 : Int) ≤ hN v.1 + n ∧ hS v.1 ≤ hS v'.1 ∧ (hS v'.1 : Int) + 4 * vCp v lx ≤ hS v.1 + 4 * vCp v' lx + s ∧ vCp v lx ≤ vCp v' lx
theorem RM.trans {lx : Nat} {v v1 v2 : vT} {n s n1 s1 : Int} (p : RM lx v v1 n s) (q : RM lx v1 v2 n1 s1) : RM lx v v2 (n + n1) (s + s1) := by
  obtain ⟨p1, p2, p3, p4, p5⟩ := p
  obtain ⟨q1, q2, q3, q4, q5⟩ := q
  exact ⟨by omega, by omega, by omega, by omega, by omega⟩
theorem RM.le {lx : Nat} {v v1 : vT} {n s n1 s1 : Int} (p : RM lx v v1 n s) (h1 : n ≤ n1) (h2 : s ≤ s1) : RM lx v v1 n1 s1 := by
  obtain ⟨p1, p2, p3, p4, p5⟩ := p
  exact ⟨by omega, by omega, by omega, by omega, by omega⟩
/-- the mistakes L1 are in the list, which is not too long -/
def ML (v : vT) (lx : Nat) (L : List tMi) : Prop := MiL v lx L ∧ vCp v lx ≤ 2 * L.length + 10
theorem ML_add {v v' : vT} {lx : Nat} {L xs : List tMi} (m : ML v lx L) (a : MiA v v' lx L xs) (hn : hN v.1 ≤ hN v'.1) : ML v' lx (insA L xs) ∧ RM lx v v' (2 * xs.length) (3 * xs.length) := by
  obtain ⟨a1, a2, a3, a4, a5, a6⟩ := a
  refine ⟨⟨a1, ?_⟩, hn, by omega, a3, by omega, a5⟩
  have := m.2
  rw [insA_len]
  omega
theorem MiL_fw {X : Nat → Nat → Prop} {v v' : vT} {l : Nat} {L : List tMi} (f : Fw X v v') (m : MiL v l L) (h1 : ¬ X l 99) (h2 : ∀ a k, X a k → k ≤ 2 → hK v.1 a ≠ 17) : MiL v' l L := by
  obtain ⟨es, ⟨k1, k2, k3⟩, e⟩ := m
  refine ⟨es, ⟨f.kk k1 (by decide), by rw [(f.cc (hK_lt k1 (by decide)) h1).1]; exact k2, fun e he => f.kk (k3 e he) (by decide)⟩, ?_⟩
  rw [e]
  refine List.map_congr_left (fun e he => ?_)
  have g := fun k (hk : k ≤ 2) => (f.ff (k := k) (hK_lt (k3 e he) (by decide)) (fun z => h2 _ _ z hk (k3 e he))).1
  unfold rdM
  rw [g 0 (by decide), g 1 (by decide), g 2 (by decide)]
theorem ML_fw {X : Nat → Nat → Prop} {v v' : vT} {l : Nat} {L : List tMi} (f : Fw X v v') (m : ML v l L) (h1 : ¬ X l 99) (h2 : ∀ a k, X a k → k ≤ 2 → hK v.1 a ≠ 17) : ML v' l L :=
  ⟨MiL_fw f m.1 h1 h2, by rw [(f.cc (hK_lt m.1.choose_spec.1.1 (by decide)) h1).2.2.1]; exact m.2⟩
section NDS
variable {r rd u mk lx a e l : Nat} {h : am_H} {v v' : vT} {L : List tMi} {p x n : Int} {kf pf : Int → Int} {A : Int → Nat} {X : Nat → Nat → Prop} {Q K2 K3 : am_O → am_H → Prop}
theorem c_iNd {z : Option Nat} {y : Int32} (k : hK h e = 19) : Cl r 173 [vR (some e), vR z, vI y] h Q ↔ Q (Sum.inl none) (putI (putR h e 0 z) e 1 y) := by
  simp (disch := first | assumption | decide | (simp only [hK_putI, hK_putJ, hK_putR]; assumption) | omega) only [eX9_init, sX9_init_0, sX9_init_1, sX9_init_4, sX9_init_5, sX9_init_6, sX9_init_9, sX9_init_10, sX9_init_11, sX9_init_14, Kt_v, Kt_0, Kt_x, ne_eq, not_true_eq_false, not_false_eq_true, reduceCtorEq, ↓reduceIte, eJ25_init, sJ25_init_0, sJ25_init_1, sJ25_init_4]
theorem NL_fw (f : Fw X v v') (x : NL v A l n kf pf) (h1 : ¬ X l 99) (h2 : ∀ a k, X a k → k ≤ 1 → hK v.1 a ≠ 19) : NL v' A l n kf pf := by
  obtain ⟨k1, k2, k3, k4⟩ := x
  have e := (f.cc (hK_lt k1 (by decide)) h1).1
  refine ⟨f.kk k1 (by decide), by rw [e]; exact k2, k3, fun i i0 i1 => ?_⟩
  obtain ⟨a, a1, a2, a3, a4⟩ := k4 i i0 i1
  have g := fun k (hk : k ≤ 1) => f.ff (k := k) (hK_lt a2 (by decide)) (fun z => h2 _ _ z hk a2)
  exact ⟨a, by rw [e]; exact a1, f.kk a2 (by decide), by rw [(g 0 (by decide)).2.2]; exact a3, by rw [(g 1 (by decide)).1]; exact a4⟩
theorem RUn_fw (f : Fw X v v') (x : RUn v rd u mk lx) (h1 : ¬ X rd 7) (h2 : ∀ k, k ≤ 5 → ¬ X u k) : RUn v' rd u mk lx := by
  obtain ⟨y1, y2, y3, y4, y5, y6⟩ := x
  exact ⟨f.kk y1 (by decide), by rw [(f.ff (hK_lt y1 (by decide)) h1).2.2]; exact y2, f.kk y3 (by decide), by rw [(f.ff (hK_lt y3 (by decide)) (h2 1 (by decide))).2.2]; exact y4, f.kk y5 (by decide), by rw [(f.ff (hK_lt y3 (by decide)) (h2 5 (by decide))).2.2]; exact y6⟩
theorem nm_add (c : CR h v) (y : RUn v rd u mk lx) (m : ML v lx L) (hl : L.length ≤ 14000) (ka : hK v.1 a = 10) (t8 : (vTx v a).length ≤ 8) (hp : -1 ≤ p ∧ p < 100000) (x : NL v A l n kf pf) (n4 : n ≤ 4) (nl : l ≠ lx)
    (mp : vMp v mk (vTx v a) = optA A (kf n)) (kd : kf n ≠ -1 → hK v.1 (A (kf n)) = 7) (pn : pf n = p) (e14 : hI v.1 rd 14 = iI p)
    (s1 : ∀ z h1, hI h1 rd 14 = iI p → hK h1 rd = 2 → hK h1 (hN h) = 19 → Cl (r + 1) 173 [vR (some (hN h)), vR z, vI (iI p)] h1 K2 → Q (Sum.inl (some (vR z))) h1)
    (s2 : ∀ h2, hK h2 l = 4 → Cl (r + 1) 119 [vR (some l), vR (some (hN h))] h2 K3 → K2 (Sum.inl none) h2)
    (q : ∀ h' v', CR h' v' → Fw (fun b k => (b = lx ∨ b = l) ∧ k = 99) v v' → NL v' A l (n + 1) kf pf → ML v' lx (insA L (if kf n = -1 then [(1, (p, -1))] else [])) → RM lx v v' 4 40 → K3 (Sum.inl (some (vI (iI 1)))) h') : Cl (r + 1) 129 [vR (some rd), vR (some a), vI (iI p)] (newC h 19 2) Q := by
  have nn := c.hn
  have c0 := CR_nw (m := 19) (n := 2) c rfl
  have f0 : Fw (fun _ _ => False) v (vnw v 19 2) := Fw.refl.nw
  have kn0 : hK (vnw v 19 2).1 (hN v.1) = 19 := by rw [vnw_1, hK_newC, if_pos rfl]
  have n0 : hN (vnw v 19 2).1 = hN v.1 + 1 := hN_newC (c := 19)
  have s0 : hS (vnw v 19 2).1 = hS v.1 + 2 := hS_newC (c := 19)
  have cp0 : ∀ b, vCp (vnw v 19 2) b = vCp v b := fun _ => rfl
  have mp0 : vMp (vnw v 19 2) = vMp v := rfl
  have tx0 : ∀ b, vTx (vnw v 19 2) b = vTx v b := fun _ => rfl
  generalize (vnw v 19 2) = v0 at *
  have y0 := RUn_fw f0 y (fun z => z) (fun _ _ z => z)
  have m0 := ML_fw f0 m (fun z => z) (fun _ _ z => z.elim)
  have x0 := NL_fw f0 x (fun z => z) (fun _ _ z => z.elim)
  have ka0 := f0.kk ka (by decide)
  have e140 : hI v0.1 rd 14 = iI p := by rw [(f0.ff (hK_lt y.1 (by decide)) (fun z => z)).1]; exact e14
  -- what follows behind known
  have go : ∀ h1 v1, CR h1 v1 → Fw (fun b k => b = lx ∧ k = 99) v0 v1 → ML v1 lx (insA L (if kf n = -1 then [(1, (p, -1))] else [])) → RM lx v0 v1 2 3 → Cl (r + 1) 173 [vR (some (hN h)), vR (optA A (kf n)), vI (iI p)] h1 K2 := by
    intro h1 v1 c1 f1 m1 rm1
    have y1 := RUn_fw f1 y0 (fun z => absurd z.2 (by decide)) (fun k hk z => by have := z.2; omega)
    have x1 := NL_fw f1 x0 (fun z => nl z.1) (fun a k z hk => by have := z.2; omega)
    have k1 : hK v1.1 (hN v.1) = 19 := f1.kk kn0 (by decide)
    have d1 : kf n ≠ -1 → hK v1.1 (A (kf n)) = 7 := fun z => f1.kk (f0.kk (kd z) (by decide)) (by decide)
    rw [nn, c_iNd (c1.kk k1 (by decide))]
    have c2 := CR_pI (k := 1) (x := iI p) (CR_pR (k := 0) (z := optA A (kf n)) c1 k1 rfl) (by exact k1) rfl
    have f2 : Fw (fun b k => b = hN v.1 ∧ k ≤ 1) v1 (vpI (vpR v1 (hN v.1) 0 (optA A (kf n))) (hN v.1) 1 (iI p)) := (Fw.refl.pR (Or.inr ⟨rfl, by decide⟩)).pI (Or.inr ⟨rfl, by decide⟩)
    have e0 : hR (vpI (vpR v1 (hN v.1) 0 (optA A (kf n))) (hN v.1) 1 (iI p)).1 (hN v.1) 0 = optA A (kf n) := by rw [vpI_1, hR_putI, vpR_1, hR_putR, if_pos ⟨rfl, rfl⟩]
    have e1 : hI (vpI (vpR v1 (hN v.1) 0 (optA A (kf n))) (hN v.1) 1 (iI p)).1 (hN v.1) 1 = iI p := by rw [vpI_1, hI_putI, if_pos ⟨rfl, rfl⟩]
    have n2 : hN (vpI (vpR v1 (hN v.1) 0 (optA A (kf n))) (hN v.1) 1 (iI p)).1 = hN v1.1 := rfl
    have s2' : hS (vpI (vpR v1 (hN v.1) 0 (optA A (kf n))) (hN v.1) 1 (iI p)).1 = hS v1.1 := rfl
    have cp2 : ∀ b, vCp (vpI (vpR v1 (hN v.1) 0 (optA A (kf n))) (hN v.1) 1 (iI p)) b = vCp v1 b := fun _ => rfl
    have ls2 : ∀ b, vLs (vpI (vpR v1 (hN v.1) 0 (optA A (kf n))) (hN v.1) 1 (iI p)) b = vLs v1 b := fun _ => rfl
    generalize (vpI (vpR v1 (hN v.1) 0 (optA A (kf n))) (hN v.1) 1 (iI p)) = v2 at *
    generalize (putI (putR h1 (hN v.1) 0 (optA A (kf n))) (hN v.1) 1 (iI p)) = h2 at *
    have k2 : hK v2.1 (hN v.1) = 19 := f2.kk k1 (by decide)
    have nwl : hN v.1 ≠ l := by have := hK_lt x.1 (by decide); omega
    have kl2 : hK v2.1 l = 4 := f2.kk x1.1 (by decide)
    refine s2 h2 (c2.kk kl2 (by decide)) ?_
    rw [nn]
    refine v_add c2 kl2 (z := some (hN v.1)) ⟨by rw [k2]; decide, by rw [k2]; decide⟩ (by rw [ls2, x1.2.1]; omega) (fun h3 n' s' c' c3 g => ?_)
    obtain ⟨g1, g2, g3, g4, g5, g6, g7, g8⟩ := grw_b g (c2.cp kl2)
    rw [ls2, x1.2.1] at g7
    have f3 : Fw (fun b k => b = l ∧ k = 99) v2 (vsL (vbm v2 n' s') l (vLs v2 l ++ [some (hN v.1)]) c') := (Fw.refl.bm g1).sL (Or.inr ⟨rfl, rfl⟩)
    have F : Fw (fun b k => (b = lx ∨ b = l) ∧ k = 99) v (vsL (vbm v2 n' s') l (vLs v2 l ++ [some (hN v.1)]) c') := by
      refine (((f0.mono (fun _ _ z => z.elim)).tr2 f1 (fun a k z => Or.inr ⟨Or.inl z.1, z.2⟩)).tr2 f2 (fun a k z => Or.inl (by rw [z.1]; exact Nat.le_refl _))).tr2 f3 (fun a k z => Or.inr ⟨Or.inr z.1, z.2⟩)
    have nx3 : vCp (vsL (vbm v2 n' s') l (vLs v2 l ++ [some (hN v.1)]) c') lx = vCp v1 lx := by
      rw [vCp_sL, if_neg (fun z => nl z.symm), vCp_bm, cp2]
    have ls3 : vLs (vsL (vbm v2 n' s') l (vLs v2 l ++ [some (hN v.1)]) c') l = vLs v1 l ++ [some (hN v.1)] := by rw [vLs_sL, if_pos rfl, ls2]
    have n3 : hN (vsL (vbm v2 n' s') l (vLs v2 l ++ [some (hN v.1)]) c').1 = n' := rfl
    have s3 : hS (vsL (vbm v2 n' s') l (vLs v2 l ++ [some (hN v.1)]) c').1 = s' := rfl
    generalize (vsL (vbm v2 n' s') l (vLs v2 l ++ [some (hN v.1)]) c') = v3 at *
    refine q h3 v3 c3 F ?_ ?_ ?_
    · obtain ⟨z1, z2, z3, z4⟩ := x1
      refine ⟨F.kk x.1 (by decide), ?_, by omega, fun i i0 i1 => ?_⟩
      · rw [ls3, List.length_append, z2]
        simp only [List.length_singleton]
        omega
      · rw [ls3]
        by_cases hi : i = n
        · refine ⟨hN v.1, ?_, ?_, ?_, ?_⟩
          · rw [List.getD_eq_getElem?_getD, List.getElem?_append_right (by rw [z2, hi]; exact Nat.le_refl _), z2, hi, Nat.sub_self]
            rfl
          · exact f3.kk k2 (by decide)
          · rw [(f3.ff (hK_lt k2 (by decide)) (fun z => nwl z.1)).2.2, hi]
            exact e0
          · rw [(f3.ff (hK_lt k2 (by decide)) (fun z => nwl z.1)).1, hi, pn]
            exact e1
        · obtain ⟨b, b1, b2, b3, b4⟩ := z4 i i0 (by omega)
          have hb : b ≠ hN v.1 := fun z => by
            obtain ⟨b', b1', b2', _, _⟩ := x.2.2.2 i i0 (by omega)
            have e1 := (f1.cc (hK_lt x0.1 (by decide)) (fun z => nl z.1)).1
            have e2 := (f0.cc (hK_lt x.1 (by decide)) (fun z => z)).1
            rw [e1, e2, b1'] at b1
            have := hK_lt b2' (by decide)
            have := Option.some.inj b1
            omega
          have bl : b ≠ l := fun z => by rw [z, z1] at b2; exact absurd b2 (by decide)
          have kb2 := f2.kk b2 (by decide)
          refine ⟨b, ?_, f3.kk kb2 (by decide), ?_, ?_⟩
          · rw [List.getD_eq_getElem?_getD, List.getElem?_append_left (by rw [z2]; omega), ← List.getD_eq_getElem?_getD]
            exact b1
          · rw [(f3.ff (hK_lt kb2 (by decide)) (fun z => bl z.1)).2.2, (f2.ff (hK_lt b2 (by decide)) (fun z => hb z.1)).2.2]
            exact b3
          · rw [(f3.ff (hK_lt kb2 (by decide)) (fun z => bl z.1)).1, (f2.ff (hK_lt b2 (by decide)) (fun z => hb z.1)).1]
            exact b4
    · have ne17 : hK v1.1 (hN v.1) ≠ 17 := by rw [k1]; decide
      have m2 := ML_fw f2 m1 (fun z => by have := z.2; omega) (fun a k z hk => by rw [z.1]; exact ne17)
      exact ML_fw f3 m2 (fun z => nl z.1.symm) (fun a k z hk => by have := z.2; omega)
    · obtain ⟨q1, q2, q3, q4, q5⟩ := rm1
      refine ⟨?_, ?_, ?_, ?_, ?_⟩
      · omega
      · omega
      · omega
      · rw [nx3]
        rw [cp0] at q4
        omega
      · rw [nx3]
        rw [cp0] at q5
        exact q5
  have mp0' : vMp v0 mk (vTx v0 a) = optA A (kf n) := by rw [mp0, tx0]; exact mp
  have kk : ∀ z, vMp v0 mk (vTx v0 a) = some z → kf n ≠ -1 ∧ z = A (kf n) := fun z hz => by
    rw [mp0'] at hz
    unfold optA at hz
    split at hz
    · exact absurd hz (by simp)
    · exact ⟨by assumption, (Option.some.inj hz).symm⟩
  have bk : ∀ h1 v1, CR h1 v1 → Fw (fun b k => b = lx ∧ k = 99) v0 v1 → hI h1 rd 14 = iI p ∧ hK h1 rd = 2 ∧ hK h1 (hN h) = 19 := fun h1 v1 c1 f1 => by
    have k1 := f1.kk y0.1 (by decide)
    refine ⟨?_, c1.kk k1 (by decide), ?_⟩
    · rw [c1.ii k1 rfl, (f1.ff (hK_lt y0.1 (by decide)) (fun z => absurd z.2 (by decide))).1]
      exact e140
    · rw [nn]
      exact c1.kk (f1.kk kn0 (by decide)) (by decide)
  refine c_known c0 y0 m0.1 (by omega) ka0 (by rw [tx0]; exact t8) hp (fun z hz => ?_) (fun h1 z c1 hz => ?_) (fun h1 v1 c1 hz f1 a1 => ?_)
  · obtain ⟨z1, z2⟩ := kk z hz
    rw [z2]
    exact f0.kk (kd z1) (by decide)
  · obtain ⟨z1, z2⟩ := kk z hz
    obtain ⟨b1, b2, b3⟩ := bk h1 v0 c1 Fw.refl
    refine s1 _ h1 b1 b2 b3 ?_
    have := go h1 v0 c1 Fw.refl (by rw [if_neg z1]; exact m0) ⟨Nat.le_refl _, by omega, Nat.le_refl _, by omega, Nat.le_refl _⟩
    rw [optA_s z1, ← z2] at this
    exact this
  · obtain ⟨b1, b2, b3⟩ := bk h1 v1 c1 f1
    have z1 : kf n = -1 := by
      rw [mp0'] at hz
      unfold optA at hz
      split at hz
      · assumption
      · exact absurd hz (by simp)
    obtain ⟨m1, r1⟩ := ML_add m0 a1 f1.1
    refine s1 _ h1 b1 b2 b3 ?_
    have := go h1 v1 c1 f1 (by rw [if_pos z1]; exact m1) r1
    rw [z1, optA_n] at this
    exact this
end NDS
