/-! COMPONENT, 10: the next token, whole *-/
theorem Fw.tr2 {X Y : Nat → Nat → Prop} {v0 v v' : vT} (f : Fw X v0 v) (g : Fw Y v v') (m : ∀ a k, Y a k → hN v0.1 ≤ a ∨ X a k) : Fw X v0 v' := by
  refine f.step g.1 g.2.1 (fun a ha => ⟨(g.2.2 a ha).1, (g.2.2 a ha).2.1⟩) (fun a k ha h0 q => (g.2.2 a ha).2.2.1 k (fun z => ?_)) (fun a ha h0 q => (g.2.2 a ha).2.2.2 (fun z => ?_))
  · rcases m a k z with e | e
    · omega
    · exact q e
  · rcases m a 99 z with e | e
    · omega
    · exact q e
section NX2
variable {r rd tp wr a b : Nat} {h : am_H} {v v' : vT} {t : Int → Int} {n p x : Int} {S : tSt} {X : Nat → Nat → Prop} {Q : am_O → am_H → Prop}
theorem tAdv_f : tAdv S 0 = S 0 ∧ tAdv S 48 = S 48 ∧ tAdv S 47 0 = tkQ (S 0) (S 48 0) (tkP (S 0) (S 48 0) (S 47 0)) ∧ tAdv S 49 0 = tkP (S 0) (S 48 0) (S 47 0) ∧ tAdv S 50 0 = tkX (S 0) (S 48 0) (tkP (S 0) (S 48 0) (S 47 0)) ∧ tAdv S 51 0 = tkS (S 0) (S 48 0) (tkP (S 0) (S 48 0) (S 47 0)) := by
  refine ⟨?_, ?_, ?_, ?_, ?_, ?_⟩
  · funext j
    unfold tAdv tTok
    simp only [up_eq, true_and, false_and, and_true, and_false, and_self, if_true, if_false, eq_self, Nat.reduceEqDiff, reduceIte]
  · funext j
    unfold tAdv tTok
    simp only [up_eq, true_and, false_and, and_true, and_false, and_self, if_true, if_false, eq_self, Nat.reduceEqDiff, reduceIte]
  all_goals (unfold tAdv tTok; simp only [up_eq, true_and, false_and, and_true, and_false, and_self, if_true, if_false, eq_self, Nat.reduceEqDiff, reduceIte])
theorem tEnd_l : ∀ (d : Nat) (p : Int) (j : Int), p ≤ j → j < tEnd t d p → 97 ≤ t j ∧ t j ≤ 122 := by
  intro d
  induction d with
  | zero => intro p j a b; rw [tEnd] at b; omega
  | succ d ih =>
    intro p j a b
    rw [tEnd] at b
    by_cases q : 97 ≤ t p ∧ t p ≤ 122
    · rw [if_pos q] at b
      by_cases e : j = p
      · rw [e]
        exact q
      · exact ih (p + 1) j (by omega) b
    · rw [if_neg q] at b
      omega
theorem tWv_T : ∀ (d : Nat) (p : Int) (k : Nat), (∀ j, 0 ≤ t j ∧ t j ≤ 255) → tWv t d (p + k) (wN (tpT t p k)) = wN (tpT t p (tEnd t d (p + k) - p).toNat) := by
  intro d
  induction d with
  | zero =>
    intro p k tb
    rw [tWv, tEnd, show (p + (k : Int) - p).toNat = k by omega]
  | succ d ih =>
    intro p k tb
    rw [tWv, tEnd]
    by_cases q : 97 ≤ t (p + k) ∧ t (p + k) ≤ 122
    · rw [if_pos q, if_pos q]
      have := ih p (k + 1) tb
      rw [tpT_s, wN_snoc, iI_toInt (by omega) (by omega), show (p + ((k + 1 : Nat) : Int)) = p + k + 1 by omega] at this
      exact this
    · rw [if_neg q, if_neg q, show (p + (k : Int) - p).toNat = k by omega]
theorem tpT_lts {k : Nat} (l : ∀ i : Nat, i < k → 97 ≤ t (p + i) ∧ t (p + i) ≤ 122) : lts (tpT t p k) := by
  intro x hx
  unfold tpT at hx
  obtain ⟨i, hi, e⟩ := List.mem_map.mp hx
  have := l i (List.mem_range.mp hi)
  rw [← e, iI_toInt (by omega) (by omega)]
  exact this
theorem c_next (c : CR h v) (x : TRr v rd tp (S 0) (S 48 0)) (e : hI v.1 rd 3 = iI (S 47 0)) (sg : SG S) (cs : CS v) (w : RW v rd wr)
    (q1 : tAdv S 51 0 ≠ -2 → ∀ h' v', CR h' v' → Fw (Xt rd) v v' → TR v' rd tp (tAdv S) → (hN v'.1 : Int) ≤ hN v.1 + 20 * (tAdv S 47 0 - S 47 0) → hS v.1 ≤ hS v'.1 → (hS v'.1 : Int) ≤ hS v.1 + 200 * (tAdv S 47 0 - S 47 0) → Q (Sum.inl none) h')
    (q2 : tAdv S 51 0 = -2 → ∀ h' v', CR h' v' → Fw (fun a k => Xt rd a k ∨ (a = wr ∧ k = 6)) v v' → hI v'.1 wr 6 = iI (tAdv S 49 0) → hN v'.1 = hN v.1 → hS v'.1 = hS v.1 → Q (Sum.inr wr) h') : Cl r 80 [vR (some rd)] h Q := by
  obtain ⟨g1, g2, g3, g4⟩ := sg
  obtain ⟨d1, d2, d3, d4, d5, d6⟩ := tAdv_f (S := S)
  unfold TR at q1
  rw [d1, d2, d3, d4, d5, d6] at q1
  rw [d4, d6] at q2
  rw [eX1_next]
  have hb := tSkip_b (S 0) (S 48 0 - S 47 0).toNat (S 47 0)
  refine nx_skip g4 (by omega) (S 48 0 - S 47 0).toNat (S 47 0) h v c x e g1 (by omega) (fun h1 v1 c1 f1 e1 n1 s1 => ?_)
  rw [show tSkip (S 0) (S 48 0 - S 47 0).toNat (S 47 0) = tkP (S 0) (S 48 0) (S 47 0) from rfl] at e1 hb
  generalize tkP (S 0) (S 48 0) (S 47 0) = P at *
  have P0 : 0 ≤ P := by omega
  have P1 : P ≤ S 48 0 := by omega
  have x1 := TRr_ft f1 x
  have k1 := c1.kk x1.1 (by decide)
  have ea1 : hI h1 rd 3 = iI P := by rw [c1.ii x1.1 rfl]; exact e1
  rw [sX1_next_52, sX1_next_53, sX1_next_54 k1, ea1, sX1_next_57 k1, sX1_next_60, sX1_next_61, sX1_next_62 (by rw [hK_putI]; exact k1), sX1_next_65, sX1_next_66, sX1_next_67 (by rw [hK_putR, hK_putI]; exact k1)]
  have c2 := CR_pI (k := 6) (x := (-1 : Int32)) (CR_pR (k := 5) (z := none) (CR_pI (k := 4) (x := iI P) c1 x1.1 rfl) (by exact x1.1) rfl) (by exact x1.1) rfl
  have f2 : Fw (Xt rd) v (vpI (vpR (vpI v1 rd 4 (iI P)) rd 5 none) rd 6 (-1 : Int32)) := ((f1.pI (Or.inr ⟨rfl, by omega, by omega⟩)).pR (Or.inr ⟨rfl, by omega, by omega⟩)).pI (Or.inr ⟨rfl, by omega, by omega⟩)
  have r3 : hI (vpI (vpR (vpI v1 rd 4 (iI P)) rd 5 none) rd 6 (-1 : Int32)).1 rd 3 = iI P := by
    rw [vpI_1, hI_putI, if_neg (by omega), vpR_1, hI_putR, vpI_1, hI_putI, if_neg (by omega)]
    exact e1
  have r4 : hI (vpI (vpR (vpI v1 rd 4 (iI P)) rd 5 none) rd 6 (-1 : Int32)).1 rd 4 = iI P := by
    rw [vpI_1, hI_putI, if_neg (by omega), vpR_1, hI_putR, vpI_1, hI_putI, if_pos ⟨rfl, rfl⟩]
  have r5 : hR (vpI (vpR (vpI v1 rd 4 (iI P)) rd 5 none) rd 6 (-1 : Int32)).1 rd 5 = none := by
    rw [vpI_1, hR_putI, vpR_1, hR_putR, if_pos ⟨rfl, rfl⟩]
  have r6 : hI (vpI (vpR (vpI v1 rd 4 (iI P)) rd 5 none) rd 6 (-1 : Int32)).1 rd 6 = iI (-1) := by
    rw [vpI_1, hI_putI, if_pos ⟨rfl, rfl⟩]
    rfl
  have n2 : hN (vpI (vpR (vpI v1 rd 4 (iI P)) rd 5 none) rd 6 (-1 : Int32)).1 = hN v.1 := n1
  have s2 : hS (vpI (vpR (vpI v1 rd 4 (iI P)) rd 5 none) rd 6 (-1 : Int32)).1 = hS v.1 := s1
  generalize (vpI (vpR (vpI v1 rd 4 (iI P)) rd 5 none) rd 6 (-1 : Int32)) = v2 at *
  generalize (putI (putR (putI h1 rd 4 (iI P)) rd 5 none) rd 6 (-1)) = h2 at *
  clear c1 f1 e1 n1 s1 x1 k1 ea1
  have x2 := TRr_ft f2 x
  obtain ⟨a1, a2, a3, a4, a5, a6⟩ := x2.raw c2
  have ea : hI h2 rd 3 = iI P := by rw [c2.ii x2.1 rfl]; exact r3
  have ep : hI h2 rd 4 = iI P := by rw [c2.ii x2.1 rfl]; exact r4
  have w2 : RW v2 rd wr := ⟨x2.1, by rw [(f2.ff (hK_lt x.1 (by decide)) (fun z => by have := z.2.1; omega)).2.2]; exact w.2.1, f2.kk w.2.2 (by decide)⟩
  have kwr := c2.kk w2.2.2 (by decide)
  have rdw : rd ≠ wr := fun z => by have := w2.2.2; rw [← z, x2.1] at this; exact absurd this (by decide)
  rw [sX1_next_70, sX1_next_71 a1, ea, sX1_next_74, sX1_next_75 a1, a5, sX1_next_78]
  have eN : iI P = iI (S 48 0) ↔ P = S 48 0 := iI_eq (by omega) (by omega) (by omega) (by omega)
  have bad : tkS (S 0) (S 48 0) P = -2 → ∀ h' v', CR h' v' → Fw (fun a k => a = wr ∧ k = 6) v2 v' → hI v'.1 wr 6 = iI P → hN v'.1 = hN v2.1 → hS v'.1 = hS v2.1 → Q (Sum.inr wr) h' := fun z h' v' c' f' e' b1 b2 =>
    q2 z h' v' c' ((f2.mono (fun _ _ => Or.inl)).trans (f'.mono (fun _ _ => Or.inr))) e' (by omega) (by omega)
  by_cases pn : P = S 48 0
  · rw [if_neg (fun z => z (eN.mpr pn)), sX1_next_81]
    have t1 : tkQ (S 0) (S 48 0) P = P := if_pos pn
    have t2 : tkX (S 0) (S 48 0) P = 0 := if_pos pn
    have t3 : tkS (S 0) (S 48 0) P = -1 := if_pos pn
    rw [t1, t2, t3] at q1
    exact q1 (by decide) h2 v2 c2 f2 ⟨x2, r3, r4, r6, Or.inl ⟨rfl, r5⟩⟩ (by omega) (by omega) (by omega)
  · rw [if_pos (fun z => pn (eN.mp z)), sX1_next_82, sX1_next_83, i_0, nx_let g4 (by omega) c2 x2 r3 P0 (S 48 0 - P).toNat 0 (by omega) (by omega), Int.add_zero, show tEnd (S 0) (S 48 0 - P).toNat P = tkE (S 0) (S 48 0) P from rfl]
    have eb := tEnd_b (S 0) (S 48 0 - P).toNat P
    rw [show tEnd (S 0) (S 48 0 - P).toNat P = tkE (S 0) (S 48 0) P from rfl] at eb
    have el := tEnd_l (t := S 0) (S 48 0 - P).toNat P
    rw [show tEnd (S 0) (S 48 0 - P).toNat P = tkE (S 0) (S 48 0) P from rfl] at el
    have bP := g4 P
    by_cases lP : 97 ≤ S 0 P ∧ S 0 P ≤ 122
    · have ge1 : P + 1 ≤ tkE (S 0) (S 48 0) P := by
        unfold tkE
        rw [show (S 48 0 - P).toNat = (S 48 0 - P - 1).toNat + 1 by omega, tEnd, if_pos lP]
        exact (tEnd_b (S 0) _ (P + 1)).1
      have t1 : tkQ (S 0) (S 48 0) P = tkE (S 0) (S 48 0) P := by unfold tkQ; rw [if_neg pn, if_pos lP]
      by_cases l8 : 8 < tkE (S 0) (S 48 0) P - P
      · have t3 : tkS (S 0) (S 48 0) P = -2 := by unfold tkS; rw [if_neg pn, if_pos lP, if_pos l8]
        rw [sX1_next_120, sX1_next_121, sX1_next_123, i_8, if_neg (by rw [iI_le (by omega) (by omega) (by omega) (by omega)]; omega), sX1_next_126, sX1_next_127, sX1_next_128 a1, ep, sX1_next_131 a1]
        refine c_wrongAt c2 w2 (fun c3 => ?_)
        rw [Kt_v, sX1_next_134 (by rw [hK_putI]; exact kwr)]
        exact bad t3 _ _ c3 (Fw.refl.pI (Or.inr ⟨rfl, rfl⟩)) (by rw [vpI_1, hI_putI, if_pos ⟨rfl, rfl⟩]) rfl rfl
      · have t2 : tkX (S 0) (S 48 0) P = tWv (S 0) (S 48 0 - P).toNat P 0 := by unfold tkX; rw [if_neg pn, if_pos lP, if_neg l8]
        have t3 : tkS (S 0) (S 48 0) P = 0 := by unfold tkS; rw [if_neg pn, if_pos lP, if_neg l8]
        have wv := tWv_T (t := S 0) (S 48 0 - P).toNat P 0 g4
        rw [show P + ((0 : Nat) : Int) = P by omega, show wN (tpT (S 0) P 0) = 0 from rfl, show tEnd (S 0) (S 48 0 - P).toNat P = tkE (S 0) (S 48 0) P from rfl, ← t2] at wv
        rw [t1, wv, t3] at q1
        obtain ⟨m, em⟩ : ∃ m : Nat, tkE (S 0) (S 48 0) P = P + m := ⟨(tkE (S 0) (S 48 0) P - P).toNat, by omega⟩
        rw [em] at q1 el ge1 l8 eb ⊢
        rw [show (P + (m : Int) - P).toNat = m by omega] at q1
        rw [show P + (m : Int) - P = m by omega]
        have lts' : ∀ i : Nat, i < m → 97 ≤ S 0 (P + i) ∧ S 0 (P + i) ≤ 122 := fun i hi => el (P + i) (by omega) (by omega)
        have kn : hK (newC h2 16 4) (hN h2) = 16 := by rw [hK_newC, if_pos rfl]
        rw [sX1_next_120, sX1_next_121, sX1_next_123, i_8, if_pos (by rw [iI_le (by omega) (by omega) (by omega) (by omega)]; omega), sX1_next_135, sX1_next_136, i_0, if_neg (by rw [iI_le (by omega) (by omega) (by omega) (by omega)]; omega), sX1_next_139, sX1_next_142, sX1_next_143, sX1_next_144 (by omega) (by omega)]
        refine v_nSb (n := m) c2 (by omega) (fun h3 c3 => ?_)
        rw [Kt_0, sX1_next_147, sX1_next_148, sX1_next_149, i_0, c2.hn]
        have f3 : Fw (fun _ _ => False) v2 (vsT (vbm (vnw v2 16 4) (hN v2.1 + 2) (hS v2.1 + 4 + m)) (hN v2.1) []) := (Fw.refl.nw.bm (by rw [vnw_1, hN_newC]; omega)).sT (Or.inl (Nat.le_refl _))
        have kb3 : hK (vsT (vbm (vnw v2 16 4) (hN v2.1 + 2) (hS v2.1 + 4 + m)) (hN v2.1) []).1 (hN v2.1) = 16 := by
          show hK (bmp (newC v2.1 16 4) _ _) _ = 16
          rw [hK_bmp (by rw [hN_newC]; omega), hK_newC, if_pos rfl]
        have tx3 : vTx (vsT (vbm (vnw v2 16 4) (hN v2.1 + 2) (hS v2.1 + 4 + m)) (hN v2.1) []) (hN v2.1) = tpT (S 0) P 0 := if_pos rfl
        have n3 : hN (vsT (vbm (vnw v2 16 4) (hN v2.1 + 2) (hS v2.1 + 4 + m)) (hN v2.1) []).1 = hN v2.1 + 2 := rfl
        have s3 : hS (vsT (vbm (vnw v2 16 4) (hN v2.1 + 2) (hS v2.1 + 4 + m)) (hN v2.1) []).1 = hS v2.1 + 4 + m := rfl
        generalize (vsT (vbm (vnw v2 16 4) (hN v2.1 + 2) (hS v2.1 + 4 + m)) (hN v2.1) []) = v3 at *
        have x3 := TRr_ft (f3.mono (fun _ _ z => z.elim)) x2
        have nr : rd ≠ hN v2.1 := by have := hK_lt x2.1 (by decide); omega
        have r33 : hI v3.1 rd 3 = iI P := by
          rw [(f3.ff (hK_lt x2.1 (by decide)) (fun z => z)).1]
          exact r3
        refine nx_app (t := S 0) (n := S 48 0) (m := m) (by omega) g4 (by omega) P0 (by omega) lts' m 0 h3 v3 (by omega) c3 x3 r33 kb3 tx3 (fun h4 v4 c4 f4 tx4 b1 b2 b3 => ?_)
        have x4 : TRr v4 rd tp (S 0) (S 48 0) := TRr_fw f4 x3 (fun z => nr z.1) (fun z => nr z.1) (fun j z => by have := x3.2.1; rw [z.1, kb3] at this; exact absurd this (by decide))
        have kb4 := f4.kk kb3 (by decide)
        have k4 := c4.kk x4.1 (by decide)
        rw [sX1_next_178, sX1_next_179, sX1_next_180 (c4.kk kb4 (by decide))]
        refine v_toS c4 kb4 (by rw [tx4, tpT_len]; omega) (fun h5 c5 => ?_)
        rw [tx4, tpT_len] at c5
        have f5 : Fw (fun _ _ => False) v4 (vsT (vbm (vnw v4 10 4) (hN v4.1 + 2) (hS v4.1 + 4 + m)) (hN v4.1) (tpT (S 0) P m)) := (Fw.refl.nw.bm (by rw [vnw_1, hN_newC]; omega)).sT (Or.inl (Nat.le_refl _))
        have kb5 : hK (vsT (vbm (vnw v4 10 4) (hN v4.1 + 2) (hS v4.1 + 4 + m)) (hN v4.1) (tpT (S 0) P m)).1 (hN v4.1) = 10 := by
          show hK (bmp (newC v4.1 10 4) _ _) _ = 10
          rw [hK_bmp (by rw [hN_newC]; omega), hK_newC, if_pos rfl]
        have tx5 : vTx (vsT (vbm (vnw v4 10 4) (hN v4.1 + 2) (hS v4.1 + 4 + m)) (hN v4.1) (tpT (S 0) P m)) (hN v4.1) = tpT (S 0) P m := if_pos rfl
        have n5 : hN (vsT (vbm (vnw v4 10 4) (hN v4.1 + 2) (hS v4.1 + 4 + m)) (hN v4.1) (tpT (S 0) P m)).1 = hN v4.1 + 2 := rfl
        have s5 : hS (vsT (vbm (vnw v4 10 4) (hN v4.1 + 2) (hS v4.1 + 4 + m)) (hN v4.1) (tpT (S 0) P m)).1 = hS v4.1 + 4 + m := rfl
        generalize (vsT (vbm (vnw v4 10 4) (hN v4.1 + 2) (hS v4.1 + 4 + m)) (hN v4.1) (tpT (S 0) P m)) = v5 at *
        have x5 := TRr_ft (f5.mono (fun _ _ z => z.elim)) x4
        have k5 := c5.kk x5.1 (by decide)
        have g5 : ∀ k, hI v5.1 rd k = hI v2.1 rd k := fun k => by
          rw [(f5.ff (hK_lt x4.1 (by decide)) (fun z => z)).1, (f4.ff (hK_lt x3.1 (by decide)) (fun z => nr z.1)).1, (f3.ff (hK_lt x2.1 (by decide)) (fun z => z)).1]
        have ea5 : hI h5 rd 3 = iI P := by rw [c5.ii x5.1 rfl, g5]; exact r3
        rw [Kt_v, sX1_next_183 k5, sX1_next_186, sX1_next_187, sX1_next_188 (by rw [hK_putR]; exact k5), sX1_next_191, sX1_next_192, sX1_next_193 (by rw [hK_putI, hK_putR]; exact k5), hI_putI, if_neg (by omega), hI_putR, ea5, sX1_next_196, sX1_next_197, iI_add, sX1_next_198 (by rw [hK_putI, hK_putR]; exact k5), sX1_next_201, sX1_next_248]
        have c6 := CR_pI (k := 3) (x := iI (P + m)) (CR_pI (k := 6) (x := (0 : Int32)) (CR_pR (k := 5) (z := some (hN v4.1)) c5 x5.1 rfl) (by exact x5.1) rfl) (by exact x5.1) rfl
        have f52 : Fw (Xt rd) v v5 := by
          refine f2.trans (((f3.mono (fun _ _ z => z.elim)).tr2 f4 (fun a k z => Or.inl ?_)).trans (f5.mono (fun _ _ z => z.elim)))
          rw [z.1]
          exact Nat.le_refl _
        refine q1 (by decide) _ _ c6 (((f52.pR (Or.inr ⟨rfl, by omega, by omega⟩)).pI (Or.inr ⟨rfl, by omega, by omega⟩)).pI (Or.inr ⟨rfl, by omega, by omega⟩)) ?_ ?_ ?_ ?_
        · refine ⟨?_, ?_, ?_, ?_, ?_⟩
          · refine TRr_ft (((Fw.refl.pR (Or.inr ⟨rfl, by omega, by omega⟩)).pI (Or.inr ⟨rfl, by omega, by omega⟩)).pI (Or.inr ⟨rfl, by omega, by omega⟩)) x5
          · rw [vpI_1, hI_putI, if_pos ⟨rfl, rfl⟩]
          · rw [vpI_1, hI_putI, if_neg (by omega), vpI_1, hI_putI, if_neg (by omega), vpR_1, hI_putR, g5]
            exact r4
          · rw [vpI_1, hI_putI, if_neg (by omega), vpI_1, hI_putI, if_pos ⟨rfl, rfl⟩]
            rfl
          · refine Or.inr ⟨?_, hN v4.1, ?_, kb5, ?_, ?_⟩
            · rw [ne_eq, wN_0 (tpT_lts lts')]
              intro z
              have := congrArg List.length z
              rw [tpT_len] at this
              simp only [List.length_nil] at this
              omega
            · rw [vpI_1, hR_putI, vpI_1, hR_putI, vpR_1, hR_putR, if_pos ⟨rfl, rfl⟩]
            · show wN (vTx v5 (hN v4.1)) = _
              rw [tx5]
            · show okK (vTx v5 (hN v4.1))
              rw [tx5]
              exact ⟨by rw [tpT_len]; omega, tpT_lts lts'⟩
        · show ((hN v5.1 : Nat) : Int) ≤ _
          omega
        · show _ ≤ hS v5.1
          omega
        · show ((hS v5.1 : Nat) : Int) ≤ _
          omega
    · have e0 : tkE (S 0) (S 48 0) P = P := by
        unfold tkE
        rw [show (S 48 0 - P).toNat = (S 48 0 - P - 1).toNat + 1 by omega, tEnd, if_neg lP]
      have t1 : tkQ (S 0) (S 48 0) P = P + 1 := by unfold tkQ; rw [if_neg pn, if_neg lP]
      have t2 : tkX (S 0) (S 48 0) P = 0 := by unfold tkX; rw [if_neg pn, if_neg lP]
      have t3 : tkS (S 0) (S 48 0) P = if tSgn (S 0 P) = true then S 0 P else -2 := by unfold tkS; rw [if_neg pn, if_neg lP]
      have bs := sB_b bP.1 bP.2
      have ebt : hI h2 tp (iI P).toNatClampNeg = iI (sB (S 0 P)) := by rw [iI_nat (by omega) (by omega)]; exact a6 P P0 (by omega)
      have bd : ¬ (iI P < 0 ∨ hL h2 tp ≤ (iI P).toNatClampNeg) := by rw [a3]; exact iI_bd P0 (by omega) (by omega)
      rw [e0, Int.sub_self, sX1_next_120, sX1_next_121, sX1_next_123, if_pos (by decide), sX1_next_135, sX1_next_136, if_pos (by decide), sX1_next_204, sX1_next_205, sX1_next_206 a1, a4, sX1_next_209, sX1_next_210 a1, ea, sX1_next_213 (by omega) (by omega) bd, ebt, sX1_next_214 a1, sX1_next_217]
      have c3 := CR_pI (k := 6) (x := iI (sB (S 0 P))) c2 x2.1 rfl
      have f3 : Fw (Xt rd) v2 (vpI v2 rd 6 (iI (sB (S 0 P)))) := Fw.refl.pI (Or.inr ⟨rfl, by omega, by omega⟩)
      have cs3 : CS (vpI v2 rd 6 (iI (sB (S 0 P)))) := CS_fw (f2.trans f3) cs (fun a z => by have := z.2.2; omega)
      have k3 : hK (vpI v2 rd 6 (iI (sB (S 0 P)))).1 rd = 2 := x2.1
      have ee : hI (vpI v2 rd 6 (iI (sB (S 0 P)))).1 rd 6 = iI (sB (S 0 P)) := by rw [vpI_1, hI_putI, if_pos ⟨rfl, rfl⟩]
      have e3 : ∀ k, k ≠ 6 → hI (vpI v2 rd 6 (iI (sB (S 0 P)))).1 rd k = hI v2.1 rd k := fun k hk => by rw [vpI_1, hI_putI, if_neg (fun z => hk z.2)]
      have e5 : hR (vpI v2 rd 6 (iI (sB (S 0 P)))).1 rd 5 = none := r5
      have n3 : hN (vpI v2 rd 6 (iI (sB (S 0 P)))).1 = hN v2.1 := rfl
      have s3 : hS (vpI v2 rd 6 (iI (sB (S 0 P)))).1 = hS v2.1 := rfl
      generalize (vpI v2 rd 6 (iI (sB (S 0 P)))) = v3 at *
      generalize (putI h2 rd 6 (iI (sB (S 0 P)))) = h3 at *
      have x3 := TRr_ft f3 x2
      have kk3 := c3.kk x3.1 (by decide)
      obtain ⟨q4, t4⟩ := cs3 4 (by omega)
      have ha : hE h3 4 = hE v3.1 4 := c3.he
      obtain ⟨bb, rs, _⟩ := c3.rs (Or.inr q4)
      have kc := c3.kk q4 (by decide)
      rw [ha, sX1_next_219, sX1_next_220 kk3, c3.ii x3.1 rfl, ee, sX1_next_223 (by omega) (by omega)]
      refine st_indexOf rs (by omega) (by omega) (by rw [t4]; decide) (fun m0 m1 m2 m3 => ?_)
      rw [Kt_v, sX1_next_226, i_0]
      have sg : tSgn (S 0 P) = true ↔ 0 ≤ m0 := by
        rw [m3, t4]
        have : ∀ y : Int, 0 ≤ y → y ≤ 127 → (iI y ∈ cT 4 ↔ tSgn y = true) := fun y y0 y1 => by
          unfold tSgn cT
          simp only [List.mem_cons, List.not_mem_nil, or_false, decide_eq_true_eq]
          have z : ∀ k : Int, 0 ≤ k → k ≤ 127 → (iI y = iI k ↔ y = k) := fun k k0 k1 => iI_eq (by omega) (by omega) (by omega) (by omega)
          rw [show (123 : Int32) = iI 123 from rfl, show (125 : Int32) = iI 125 from rfl, show (40 : Int32) = iI 40 from rfl, show (41 : Int32) = iI 41 from rfl, show (59 : Int32) = iI 59 from rfl, show (44 : Int32) = iI 44 from rfl, show (124 : Int32) = iI 124 from rfl, z _ (by omega) (by omega), z _ (by omega) (by omega), z _ (by omega) (by omega), z _ (by omega) (by omega), z _ (by omega) (by omega), z _ (by omega) (by omega), z _ (by omega) (by omega)]
          omega
        unfold sB
        by_cases z : S 0 P < 128
        · rw [if_pos z, this _ (by omega) (by omega)]
          exact ⟨fun y => ⟨by omega, y⟩, fun y => y.2⟩
        · rw [if_neg z]
          unfold tSgn
          rw [decide_eq_true_eq]
          exact ⟨fun y => by omega, fun y => by omega⟩
      by_cases ok : 0 ≤ m0
      · have st := sg.mpr ok
        rw [if_pos st] at t3
        have ne2 : S 0 P ≠ -2 := by omega
        have sbe : sB (S 0 P) = S 0 P := by
          have z := (m3.mp ok).1
          unfold sB at z ⊢
          split at z
          · rw [if_pos (by assumption)]
          · omega
        have ea3 : hI h3 rd 3 = iI P := by rw [c3.ii x3.1 rfl, e3 3 (by decide)]; exact r3
        have ej : iI P + (1 : Int32) = iI (P + 1) := by rw [i_1, iI_add]
        rw [if_pos (by rw [iI_le (by omega) (by omega) (by omega) (by omega)]; exact ok), sX1_next_238, sX1_next_239, sX1_next_240 kk3, ea3, sX1_next_243, sX1_next_244, ej, sX1_next_245 kk3, sX1_next_248]
        rw [t1, t2, t3] at q1
        have f4 : Fw (Xt rd) v3 (vpI v3 rd 3 (iI (P + 1))) := Fw.refl.pI (Or.inr ⟨rfl, by omega, by omega⟩)
        refine q1 ne2 _ _ (CR_pI c3 x3.1 rfl) (f2.trans (f3.trans f4)) ⟨TRr_ft f4 x3, ?_, ?_, ?_, Or.inl ⟨rfl, ?_⟩⟩ ?_ ?_ ?_
        · rw [vpI_1, hI_putI, if_pos ⟨rfl, rfl⟩]
        · rw [vpI_1, hI_putI, if_neg (by omega), e3 4 (by decide)]
          exact r4
        · rw [vpI_1, hI_putI, if_neg (by omega), ee, sbe]
        · rw [vpI_1, hR_putI]
          exact e5
        · show ((hN v3.1 : Nat) : Int) ≤ _
          omega
        · show _ ≤ hS v3.1
          omega
        · show ((hS v3.1 : Nat) : Int) ≤ _
          omega
      · have st : ¬ tSgn (S 0 P) = true := fun z => ok (sg.mp z)
        rw [if_neg st] at t3
        have ep3 : hI h3 rd 4 = iI P := by rw [c3.ii x3.1 rfl, e3 4 (by decide)]; exact r4
        have w3 : RW v3 rd wr := ⟨x3.1, by rw [(f3.ff (hK_lt x2.1 (by decide)) (fun z => by have := z.2.1; omega)).2.2]; exact w2.2.1, f3.kk w2.2.2 (by decide)⟩
        rw [if_neg (by rw [iI_le (by omega) (by omega) (by omega) (by omega)]; exact ok), sX1_next_229, sX1_next_230, sX1_next_231 kk3, ep3, sX1_next_234 kk3]
        refine c_wrongAt c3 w3 (fun c4 => ?_)
        rw [Kt_v, sX1_next_237 (by rw [hK_putI]; exact c3.kk w3.2.2 (by decide))]
        refine q2 t3 _ _ c4 (((f2.trans f3).mono (fun _ _ => Or.inl)).pI (Or.inr (Or.inr ⟨rfl, rfl⟩))) (by rw [vpI_1, hI_putI, if_pos ⟨rfl, rfl⟩]) ?_ ?_
        · show hN v3.1 = _
          omega
        · show hS v3.1 = _
          omega
end NX2
