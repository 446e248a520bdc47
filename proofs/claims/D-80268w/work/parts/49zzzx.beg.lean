/-! COMPONENT, 20: how a statement begins *-/
section BGS
variable {r rd tp wr a b k : Nat} {h : am_H} {v v' : vT} {S : tSt} {Q : am_O → am_H → Prop} {l1 l2 l3 l4 l5 l6 l7 l8 l9 l10 l11 l12 : Option am_V}
theorem t_begins (c : CR h v) (t : PT v rd tp wr S)
    (q : ∀ h' v', CR h' v' → Fw (fun _ _ => False) v v' → hN v'.1 ≤ hN v.1 + 4 → hS v.1 ≤ hS v'.1 → hS v'.1 ≤ hS v.1 + 40 → Rn r 175 57 [some (vR (some rd)), l1, l2, l3, l4, l5, l6, l7, l8, l9, l10, l11, l12] [vI (bI (tBegins S = true))] h' Q) :
    Rn r 175 0 [some (vR (some rd)), l1, l2, l3, l4, l5, l6, l7, l8, l9, l10, l11, l12] [] h Q := by
  have t' := t
  have e6 : hI h rd 6 = iI (S 51 0) := by rw [c.ii t.w0.1 rfl]; exact t.1.2.2.2.1
  have s51 := t.2.1.2.2.2.1
  have i123 : iI (S 51 0) = iI 123 ↔ S 51 0 = 123 := iI_eq (by omega) (by omega) (by omega) (by omega)
  have bgi : tBegins S = true ↔ S 51 0 = 123 ∨ [wDo, wCall, wThrow, wSet, wIf, wWhile, wLoop, wBreak, wReturn, wTry, wRun].contains (S 50 0) = true := by
    unfold tBegins
    rw [Bool.or_eq_true, decide_eq_true_eq]
  obtain ⟨⟨x1, x2, x3, x4, x5⟩, t2, t3, t4, w⟩ := t
  have kr := c.kk w.1 (by decide)
  rw [sX1_statement_0, sX1_statement_1 kr, e6, sX1_statement_4, sX1_statement_6, i_123]
  by_cases e123 : S 51 0 = 123
  · rw [if_pos (i123.mpr e123), sX1_statement_52, sX1_statement_53]
    have := q h v c Fw.refl (by omega) (by omega) (by omega)
    unfold bI at this
    rw [if_pos (bgi.mpr (Or.inl e123))] at this
    exact this
  rw [if_neg (fun z => e123 (i123.mp z)), sX1_statement_9, sX1_statement_10 kr, c.rr w.1 rfl, sX1_statement_13]
  rcases x5 with ⟨e0, e1⟩ | ⟨e0, a, e1, e2, e3, e4⟩
  · rw [if_pos e1, sX1_statement_56]
    have := q h v c Fw.refl (by omega) (by omega) (by omega)
    unfold bI at this
    rw [if_neg (fun z => by
      rcases bgi.mp z with y | y
      · exact e123 y
      · rw [e0] at y
        exact absurd y (by decide))] at this
    exact this
  · rw [e1, if_neg (by simp), sX1_statement_16, sX1_statement_19, sX1_statement_22, sX1_statement_23 (by rw [hK_newC, if_pos rfl]; decide) (by rw [hK_newC, if_pos rfl]; decide)]
    have nn := c.hn
    have ee := fun k => c.he (k := k)
    refine v_nSb2 c (fun h1 c1 room1 => ?_)
    have f1 : Fw (fun _ _ => False) v (vsT (vbm (vnw v 16 4) (hN v.1 + 2) (hS v.1 + 4 + 16)) (hN v.1) []) := (Fw.refl.nw.bm (by rw [vnw_1, hN_newC]; omega)).sT (Or.inl (Nat.le_refl _))
    have kb1 : hK (vsT (vbm (vnw v 16 4) (hN v.1 + 2) (hS v.1 + 4 + 16)) (hN v.1) []).1 (hN v.1) = 16 := by
      show hK (bmp (newC v.1 16 4) _ _) _ = 16
      rw [hK_bmp (by rw [hN_newC]; omega), hK_newC, if_pos rfl]
    have tx1 : vTx (vsT (vbm (vnw v 16 4) (hN v.1 + 2) (hS v.1 + 4 + 16)) (hN v.1) []) (hN v.1) = [] := if_pos rfl
    have n1 : hN (vsT (vbm (vnw v 16 4) (hN v.1 + 2) (hS v.1 + 4 + 16)) (hN v.1) []).1 = hN v.1 + 2 := rfl
    have s1 : hS (vsT (vbm (vnw v 16 4) (hN v.1 + 2) (hS v.1 + 4 + 16)) (hN v.1) []).1 = hS v.1 + 20 := rfl
    generalize (vsT (vbm (vnw v 16 4) (hN v.1 + 2) (hS v.1 + 4 + 16)) (hN v.1) []) = v1 at *
    have he1 : ∀ k, hE v1.1 k = hE v.1 k := f1.2.1
    have p1 := PT_0 f1 t'
    have c7 := t4 7 (by omega)
    have c71 := p1.2.2.2.1 7 (by omega)
    have ka1 := f1.kk e2 (by decide)
    have ta1 : vTx v1 a = vTx v a := (f1.cc (hK_lt e2 (by decide)) (fun z => z)).2.2.2
    have la : a ≠ hN v.1 := by have := hK_lt e2 (by decide); omega
    have l7 : hE v.1 7 ≠ hN v.1 := by have := hK_lt c7.1 (by decide); omega
    have l6 : hE v.1 13 ≠ hN v.1 := by have := hK_lt (t4 13 (by omega)).1 (by decide); omega
    rw [he1] at c71
    rw [Kt_0, sX1_statement_26, c1.he, he1, nn, sX1_statement_28 (c1.kk kb1 (by decide))]
    refine v_aps (cp := 16) c1 kb1 (Or.inr c71.1) room1 (by rw [tx1, c71.2]; decide) (fun h2 c2 room2 => ?_)
    rw [tx1, c71.2] at c2
    have f2 : Fw (fun _ _ => False) v (vsT (vbm v1 (hN v1.1) (hS v1.1)) (hN v.1) ([] ++ cT 7)) := (f1.bm (Nat.le_refl _)).sT (Or.inl (Nat.le_refl _))
    have kb2 : hK (vsT (vbm v1 (hN v1.1) (hS v1.1)) (hN v.1) ([] ++ cT 7)).1 (hN v.1) = 16 := by
      show hK (bmp v1.1 _ _) _ = 16
      rw [hK_bmp (Nat.le_refl _)]
      exact kb1
    have tx2 : vTx (vsT (vbm v1 (hN v1.1) (hS v1.1)) (hN v.1) ([] ++ cT 7)) (hN v.1) = [32] := if_pos rfl
    have n2 : hN (vsT (vbm v1 (hN v1.1) (hS v1.1)) (hN v.1) ([] ++ cT 7)).1 = hN v1.1 := rfl
    have s2 : hS (vsT (vbm v1 (hN v1.1) (hS v1.1)) (hN v.1) ([] ++ cT 7)).1 = hS v1.1 := rfl
    generalize (vsT (vbm v1 (hN v1.1) (hS v1.1)) (hN v.1) ([] ++ cT 7)) = v2 at *
    have p2 := PT_0 f2 t'
    have ka2 := f2.kk e2 (by decide)
    have ta2 : vTx v2 a = vTx v a := (f2.cc (hK_lt e2 (by decide)) (fun z => z)).2.2.2
    have r52 : hR v2.1 rd 5 = some a := by rw [(f2.ff (hK_lt w.1 (by decide)) (fun z => z)).2.2]; exact e1
    rw [Kt_v, sX1_statement_31, sX1_statement_32 (c2.kk p2.2.2.2.2.1 (by decide)), c2.rr p2.2.2.2.2.1 rfl, r52, sX1_statement_35 (c2.kk kb2 (by decide))]
    refine v_aps (cp := 16) c2 kb2 (Or.inl ka2) room2 (by rw [tx2, ta2]; have := e4.1; simp only [List.length_cons, List.length_nil]; omega) (fun h3 c3 room3 => ?_)
    rw [tx2, ta2] at c3
    have f3 : Fw (fun _ _ => False) v (vsT (vbm v2 (hN v2.1) (hS v2.1)) (hN v.1) ([32] ++ vTx v a)) := (f2.bm (Nat.le_refl _)).sT (Or.inl (Nat.le_refl _))
    have kb3 : hK (vsT (vbm v2 (hN v2.1) (hS v2.1)) (hN v.1) ([32] ++ vTx v a)).1 (hN v.1) = 16 := by
      show hK (bmp v2.1 _ _) _ = 16
      rw [hK_bmp (Nat.le_refl _)]
      exact kb2
    have tx3 : vTx (vsT (vbm v2 (hN v2.1) (hS v2.1)) (hN v.1) ([32] ++ vTx v a)) (hN v.1) = [32] ++ vTx v a := if_pos rfl
    have n3 : hN (vsT (vbm v2 (hN v2.1) (hS v2.1)) (hN v.1) ([32] ++ vTx v a)).1 = hN v2.1 := rfl
    have s3 : hS (vsT (vbm v2 (hN v2.1) (hS v2.1)) (hN v.1) ([32] ++ vTx v a)).1 = hS v2.1 := rfl
    generalize (vsT (vbm v2 (hN v2.1) (hS v2.1)) (hN v.1) ([32] ++ vTx v a)) = v3 at *
    have p3 := PT_0 f3 t'
    have c73 := p3.2.2.2.1 7 (by omega)
    rw [Kt_v, sX1_statement_38, c3.he, sX1_statement_40 (c3.kk kb3 (by decide))]
    refine v_aps (cp := 16) c3 kb3 (Or.inr c73.1) room3 (by rw [tx3, c73.2]; have := e4.1; simp only [List.length_append, List.length_cons, List.length_nil, cT]; omega) (fun h4 c4 _ => ?_)
    rw [tx3, c73.2] at c4
    have f4 : Fw (fun _ _ => False) v (vsT (vbm v3 (hN v3.1) (hS v3.1)) (hN v.1) ([32] ++ vTx v a ++ cT 7)) := (f3.bm (Nat.le_refl _)).sT (Or.inl (Nat.le_refl _))
    have kb4 : hK (vsT (vbm v3 (hN v3.1) (hS v3.1)) (hN v.1) ([32] ++ vTx v a ++ cT 7)).1 (hN v.1) = 16 := by
      show hK (bmp v3.1 _ _) _ = 16
      rw [hK_bmp (Nat.le_refl _)]
      exact kb3
    have tx4 : vTx (vsT (vbm v3 (hN v3.1) (hS v3.1)) (hN v.1) ([32] ++ vTx v a ++ cT 7)) (hN v.1) = 32 :: (vTx v a ++ [32]) := if_pos rfl
    have n4 : hN (vsT (vbm v3 (hN v3.1) (hS v3.1)) (hN v.1) ([32] ++ vTx v a ++ cT 7)).1 = hN v3.1 := rfl
    have s4 : hS (vsT (vbm v3 (hN v3.1) (hS v3.1)) (hN v.1) ([32] ++ vTx v a ++ cT 7)).1 = hS v3.1 := rfl
    generalize (vsT (vbm v3 (hN v3.1) (hS v3.1)) (hN v.1) ([32] ++ vTx v a ++ cT 7)) = v4 at *
    rw [Kt_v, sX1_statement_43 (c4.kk kb4 (by decide))]
    have l10 : (32 :: (vTx v a ++ [32])).length = (vTx v a).length + 2 := by simp
    have := e4.1
    refine v_toS c4 kb4 (by rw [tx4, l10]; omega) (fun h5 c5 => ?_)
    rw [tx4, l10] at c5
    have f5 : Fw (fun _ _ => False) v (vsT (vbm (vnw v4 10 4) (hN v4.1 + 2) (hS v4.1 + 4 + ((vTx v a).length + 2))) (hN v4.1) (32 :: (vTx v a ++ [32]))) := (f4.nw.bm (by rw [vnw_1, hN_newC]; omega)).sT (Or.inl (by omega))
    have kb5 : hK (vsT (vbm (vnw v4 10 4) (hN v4.1 + 2) (hS v4.1 + 4 + ((vTx v a).length + 2))) (hN v4.1) (32 :: (vTx v a ++ [32]))).1 (hN v4.1) = 10 := by
      show hK (bmp (newC v4.1 10 4) _ _) _ = 10
      rw [hK_bmp (by rw [hN_newC]; omega), hK_newC, if_pos rfl]
    have tx5 : vTx (vsT (vbm (vnw v4 10 4) (hN v4.1 + 2) (hS v4.1 + 4 + ((vTx v a).length + 2))) (hN v4.1) (32 :: (vTx v a ++ [32]))) (hN v4.1) = 32 :: (vTx v a ++ [32]) := if_pos rfl
    have n5 : hN (vsT (vbm (vnw v4 10 4) (hN v4.1 + 2) (hS v4.1 + 4 + ((vTx v a).length + 2))) (hN v4.1) (32 :: (vTx v a ++ [32]))).1 = hN v4.1 + 2 := rfl
    have s5 : hS (vsT (vbm (vnw v4 10 4) (hN v4.1 + 2) (hS v4.1 + 4 + ((vTx v a).length + 2))) (hN v4.1) (32 :: (vTx v a ++ [32]))).1 = hS v4.1 + 4 + ((vTx v a).length + 2) := rfl
    generalize (vsT (vbm (vnw v4 10 4) (hN v4.1 + 2) (hS v4.1 + 4 + ((vTx v a).length + 2))) (hN v4.1) (32 :: (vTx v a ++ [32]))) = v5 at *
    have p5 := PT_0 f5 t'
    obtain ⟨k61, k62⟩ := p5.2.2.2.1 13 (by omega)
    rw [f5.2.1] at k61 k62
    have k6h := c5.kk k61 (by decide)
    obtain ⟨b6, rs6, _⟩ := c5.rs (Or.inr k61)
    obtain ⟨b7, rs7, _⟩ := c5.rs (Or.inl kb5)
    rw [k62] at rs6
    rw [tx5] at rs7
    have l105 : (cT 13).length = 54 := rfl
    have ne : vTx v a ≠ [] := fun z => e0 (by rw [← e3, z]; rfl)
    rw [Kt_v, ee, sX1_statement_46 (by omega) (by omega), st_contains rs6 rs7 (by rw [l10]; omega) (by rw [l10, l105]; omega), Kt_v, sX1_statement_49]
    have ky := beg_iff e4.2 ne e4.1
    rw [e3] at ky
    have qq := q h5 v5 c5 f5 (by omega) (by omega) (by omega)
    unfold bI at qq
    by_cases z : [wDo, wCall, wThrow, wSet, wIf, wWhile, wLoop, wBreak, wReturn, wTry, wRun].contains (S 50 0) = true
    · rw [if_pos (ky.mpr z), if_neg (by decide), sX1_statement_52, sX1_statement_53]
      rw [if_pos (bgi.mpr (Or.inr z))] at qq
      exact qq
    · rw [if_neg (fun y => z (ky.mp y)), if_pos rfl, sX1_statement_56]
      rw [if_neg (fun y => (bgi.mp y).elim e123 z)] at qq
      exact qq
end BGS
