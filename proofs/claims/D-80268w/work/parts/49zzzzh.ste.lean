/-! COMPONENT, 27: a statement is made and entered *-/
section SES
variable {r rd tp wr a n k u ls m : Nat} {h : am_H} {v v0 : vT} {S : tSt} {Q : am_O → am_H → Prop} {l1 l2 l4 l5 l6 l7 l8 l9 l10 l11 l12 : Option am_V}
theorem vFl_f (f : Fw (fun _ _ => False) v v0) (ha : hN v.1 ≤ a) : Fw (fun _ _ => False) v (vFl v0 a k n) := (f.trans vLn_f).pR (Or.inl ha)
theorem mdO_f (k : Int) : Fw (fun _ _ => False) v (mdO v k) := by
  have le : hN v.1 ≤ hN v.1 := Nat.le_refl _
  unfold mdO
  repeat' split
  · exact Fw.refl.nw.pI (Or.inl le)
  · exact Fw.refl.nw
  · exact Fw.refl.nw
  · exact Fw.refl.nw.pI (Or.inl le)
  · exact Fw.refl.nw
  · exact (vFl_f Fw.refl.nw le).pI (Or.inl le)
  · exact (vFl_f Fw.refl.nw le).pI (Or.inl le)
  · exact vFl_f Fw.refl.nw le
  · exact Fw.refl.nw.pI (Or.inl le)
  · exact vFl_f (vFl_f (vFl_f (vFl_f Fw.refl.nw le) le) le) le
  · exact vFl_f Fw.refl.nw le
theorem mdV_f : Fw (fun _ _ => False) v (mdV v S) := by
  unfold mdV
  split
  · exact Fw.refl.nw
  · exact mdO_f _
theorem mdO_k (k : Int) : ∃ c, hK (mdO v k).1 (hN v.1) = c ∧ 30 ≤ c ∧ c ≤ 38 := by
  have e : ∀ c n, hK (vnw v c n).1 (hN v.1) = c := fun c n => nw_k
  unfold mdO
  by_cases h0 : k = 0
  · rw [if_pos h0]
    exact ⟨30, e 30 7, by decide, by decide⟩
  rw [if_neg h0]
  by_cases h1 : k = 1
  · rw [if_pos h1]
    exact ⟨31, e 31 8, by decide, by decide⟩
  rw [if_neg h1]
  by_cases h2 : k = 2
  · rw [if_pos h2]
    exact ⟨32, e 32 7, by decide, by decide⟩
  rw [if_neg h2]
  by_cases h3 : k = 3
  · rw [if_pos h3]
    exact ⟨30, e 30 7, by decide, by decide⟩
  rw [if_neg h3]
  by_cases h4 : k = 4
  · rw [if_pos h4]
    exact ⟨33, e 33 7, by decide, by decide⟩
  rw [if_neg h4]
  by_cases h5 : k = 5
  · rw [if_pos h5]
    exact ⟨34, vFl_k (a := hN v.1) (k := 7) (n := 1) (e 34 8) (by decide), by decide, by decide⟩
  rw [if_neg h5]
  by_cases h6 : k = 6
  · rw [if_pos h6]
    exact ⟨34, vFl_k (a := hN v.1) (k := 7) (n := 1) (e 34 8) (by decide), by decide, by decide⟩
  rw [if_neg h6]
  by_cases h7 : k = 7
  · rw [if_pos h7]
    exact ⟨35, vFl_k (e 35 7) (by decide), by decide, by decide⟩
  rw [if_neg h7]
  by_cases h8 : k = 8
  · rw [if_pos h8]
    exact ⟨30, e 30 7, by decide, by decide⟩
  rw [if_neg h8]
  by_cases h9 : k = 9
  · rw [if_pos h9]
    exact ⟨36, vFl_k (vFl_k (vFl_k (vFl_k (e 36 12) (by decide)) (by decide)) (by decide)) (by decide), by decide, by decide⟩
  rw [if_neg h9]
  exact ⟨37, vFl_k (e 37 7) (by decide), by decide, by decide⟩
theorem mdV_k : 30 ≤ hK (mdV v S).1 (hN v.1) ∧ hK (mdV v S).1 (hN v.1) ≤ 38 := by
  unfold mdV
  by_cases h : S 51 0 = 123
  · rw [if_pos h, nw_k]
    decide
  · rw [if_neg h]
    obtain ⟨c, c1, c2, c3⟩ := mdO_k (v := v) (mdI (S 50 0))
    rw [c1]
    exact ⟨c2, c3⟩
theorem st_entry (c : CR h v) (t : PT v rd tp wr S) (bg : tBegins S = true) (r7 : hR v.1 rd 7 = some u) (ku : hK v.1 u = 5) (u4 : hR v.1 u 4 = some ls) (kl : hK v.1 ls = 4) (hn : (vLs v ls).length ≤ 1000) (r8 : hR v.1 rd 8 = some m) {l3 : Option am_V}
    (q : ∀ h' v', CR h' v' → Fw (fun c k => (c = hN v.1 ∧ k ≤ 2) ∨ (c = ls ∧ k = 99)) (mdV v S) v' → vLs v' ls = vLs v ls ++ [some (hN v.1)] → hI v'.1 (hN v.1) 0 = iI (vLs v ls).length → hI v'.1 (hN v.1) 1 = iI (S 49 0) → hR v'.1 (hN v.1) 2 = some m → hN v'.1 ≤ hN (mdV v S).1 + 1 → hS (mdV v S).1 ≤ hS v'.1 → hS v'.1 ≤ hS (mdV v S).1 + 2 * (vLs v ls).length + 10 →
      Rn r 175 133 [some (vR (some rd)), l1, l2, some (vR (some (hN v.1))), l4, l5, l6, l7, l8, l9, l10, l11, l12] [] h' Q) :
    Rn r 175 86 [some (vR (some rd)), l1, l2, l3, l4, l5, l6, l7, l8, l9, l10, l11, l12] [] h Q := by
  have kr := c.kk t.w0.1 (by decide)
  rw [sX1_statement_86, sX1_statement_87 kr]
  refine c_made c t bg (fun h1 c1 => ?_)
  have f1 := mdV_f (v := v) (S := S)
  have mk := mdV_k (v := v) (S := S)
  generalize mdV v S = v1 at *
  have t1 := PT_0 f1 t
  have kr1 := c1.kk t1.w0.1 (by decide)
  have ku1 := f1.kk ku (by decide)
  have kl1 := f1.kk kl (by decide)
  have g7 : hR v1.1 rd 7 = some u := by rw [(f1.ff (hK_lt t.w0.1 (by decide)) (fun z => z)).2.2]; exact r7
  have g8 : hR v1.1 rd 8 = some m := by rw [(f1.ff (hK_lt t.w0.1 (by decide)) (fun z => z)).2.2]; exact r8
  have g4 : hR v1.1 u 4 = some ls := by rw [(f1.ff (hK_lt ku (by decide)) (fun z => z)).2.2]; exact u4
  have ll : vLs v1 ls = vLs v ls := (f1.cc (hK_lt kl (by decide)) (fun z => z)).1
  have ar : hN v.1 ≠ rd := by have := hK_lt t.w0.1 (by decide); omega
  have au : hN v.1 ≠ u := by have := hK_lt ku (by decide); omega
  have al : hN v.1 ≠ ls := by have := hK_lt kl (by decide); omega
  obtain ⟨kd, ekd⟩ : ∃ kd, hK v1.1 (hN v.1) = kd := ⟨_, rfl⟩
  rw [ekd] at mk
  have wkd : wk kd = true := by
    have : kd = 30 ∨ kd = 31 ∨ kd = 32 ∨ kd = 33 ∨ kd = 34 ∨ kd = 35 ∨ kd = 36 ∨ kd = 37 ∨ kd = 38 := by omega
    rcases this with e | e | e | e | e | e | e | e | e <;> rw [e] <;> rfl
  have ka1 : hK h1 (hN v.1) = kd := c1.kk ekd (by omega)
  have sz : ∀ Q, Cl r 34 [vR (some ls)] h1 Q ↔ _ := fun Q => v_size c1 kl1
  rw [Kt_v, sX1_statement_90, sX1_statement_91, sX1_statement_92, sX1_statement_93 kr1, c1.rr t1.w0.1 rfl, g7, sX1_statement_96 (c1.kk ku1 (by decide)), c1.rr ku1 rfl, g4, sX1_statement_99 (c1.kk kl1 (by decide)), sz, Kt_v, ll, sX1_statement_102 (by omega) (by omega)]
  rw [sX1_statement_105, sX1_statement_106, sX1_statement_107 (by rw [hK_putI]; exact kr1), hI_putI, if_neg (fun z => ar z.1.symm), c1.ii t1.w0.1 rfl, t1.1.2.2.1, sX1_statement_110 (by rw [hK_putI]; omega) (by rw [hK_putI]; omega)]
  rw [sX1_statement_113, sX1_statement_114, sX1_statement_115 (by rw [hK_putI, hK_putI]; exact kr1), hR_putI, hR_putI, c1.rr t1.w0.1 rfl, g8, sX1_statement_118 (by rw [hK_putI, hK_putI]; omega) (by rw [hK_putI, hK_putI]; omega)]
  have c2 := CR_pR (k := 2) (z := some m) (CR_pI (k := 1) (x := iI (S 49 0)) (CR_pI (k := 0) (x := iI (vLs v ls).length) c1 ekd wkd) (by exact ekd) wkd) (by exact ekd) wkd
  have f2 : Fw (fun c k => (c = hN v.1 ∧ k ≤ 2) ∨ (c = ls ∧ k = 99)) v1 (vpR (vpI (vpI v1 (hN v.1) 0 (iI (vLs v ls).length)) (hN v.1) 1 (iI (S 49 0))) (hN v.1) 2 (some m)) := ((Fw.refl.pI (Or.inr (Or.inl ⟨rfl, by decide⟩))).pI (Or.inr (Or.inl ⟨rfl, by decide⟩))).pR (Or.inr (Or.inl ⟨rfl, by decide⟩))
  have e0 : hI (vpR (vpI (vpI v1 (hN v.1) 0 (iI (vLs v ls).length)) (hN v.1) 1 (iI (S 49 0))) (hN v.1) 2 (some m)).1 (hN v.1) 0 = iI (vLs v ls).length := by
    rw [vpR_1, hI_putR, vpI_1, hI_putI, if_neg (by omega), vpI_1, hI_putI, if_pos ⟨rfl, rfl⟩]
  have e1 : hI (vpR (vpI (vpI v1 (hN v.1) 0 (iI (vLs v ls).length)) (hN v.1) 1 (iI (S 49 0))) (hN v.1) 2 (some m)).1 (hN v.1) 1 = iI (S 49 0) := by
    rw [vpR_1, hI_putR, vpI_1, hI_putI, if_pos ⟨rfl, rfl⟩]
  have e2 : hR (vpR (vpI (vpI v1 (hN v.1) 0 (iI (vLs v ls).length)) (hN v.1) 1 (iI (S 49 0))) (hN v.1) 2 (some m)).1 (hN v.1) 2 = some m := by
    rw [vpR_1, hR_putR, if_pos ⟨rfl, rfl⟩]
  have n2 : hN (vpR (vpI (vpI v1 (hN v.1) 0 (iI (vLs v ls).length)) (hN v.1) 1 (iI (S 49 0))) (hN v.1) 2 (some m)).1 = hN v1.1 := rfl
  have s2 : hS (vpR (vpI (vpI v1 (hN v.1) 0 (iI (vLs v ls).length)) (hN v.1) 1 (iI (S 49 0))) (hN v.1) 2 (some m)).1 = hS v1.1 := rfl
  have ls2 : vLs (vpR (vpI (vpI v1 (hN v.1) 0 (iI (vLs v ls).length)) (hN v.1) 1 (iI (S 49 0))) (hN v.1) 2 (some m)) ls = vLs v ls := ll
  generalize (vpR (vpI (vpI v1 (hN v.1) 0 (iI (vLs v ls).length)) (hN v.1) 1 (iI (S 49 0))) (hN v.1) 2 (some m)) = v2 at *
  generalize (putR (putI (putI h1 (hN v.1) 0 (iI (vLs v ls).length)) (hN v.1) 1 (iI (S 49 0))) (hN v.1) 2 (some m)) = h2 at *
  have kr2 := f2.kk t1.w0.1 (by decide)
  have ku2 := f2.kk ku1 (by decide)
  have kl2 := f2.kk kl1 (by decide)
  have ka2 := f2.kk ekd (by omega)
  have q7 : hR v2.1 rd 7 = some u := by rw [(f2.ff (hK_lt t1.w0.1 (by decide)) (fun z => by rcases z with z | z; exact ar z.1.symm; exact absurd z.2 (by decide))).2.2]; exact g7
  have q4 : hR v2.1 u 4 = some ls := by rw [(f2.ff (hK_lt ku1 (by decide)) (fun z => by rcases z with z | z; exact au z.1.symm; exact absurd z.2 (by decide))).2.2]; exact g4
  rw [sX1_statement_121, sX1_statement_122 (c2.kk kr2 (by decide)), c2.rr kr2 rfl, q7, sX1_statement_125 (c2.kk ku2 (by decide)), c2.rr ku2 rfl, q4, sX1_statement_128, sX1_statement_129 (c2.kk kl2 (by decide))]
  refine v_add c2 kl2 (z := some (hN v.1)) ⟨by rw [ka2]; omega, by rw [ka2]; omega⟩ (by rw [ls2]; omega) (fun h3 n' s' c' c3 g => ?_)
  obtain ⟨g1, g2, g3, g4, g5, g6, g7, g8⟩ := grw_b g (c2.cp kl2)
  rw [ls2] at g7
  rw [Kt_v, sX1_statement_132]
  refine q h3 _ c3 ((f2.bm g1).sL (Or.inr (Or.inr ⟨rfl, rfl⟩))) (by rw [vLs_sL, if_pos rfl, ls2]) e0 e1 e2 ?_ ?_ ?_
  · show n' ≤ _
    omega
  · show _ ≤ s'
    omega
  · show s' ≤ _
    omega
end SES
