/-! COMPONENT, 96: a kind is read (82) *-/
section CKD
variable {R : Nat → Nat} {A : Nat → Int → Nat} {T : Nat → Nat} {w p0 : Int} {h : am_H} {v : vT} {S U : tSt} {r : Nat} {Q : am_O → am_H → Prop}
/-- the rows alone along a step -/
theorem PX_step (px : PX w S U) (hm : tMore S = true) (e : (tStep w S U).1 52 0 = -1) (p5 : ∀ k, 4 ≤ k → k < (tStep w S U).2 3 w → (tStep w S U).2 5 (w * 16 + k) ≤ (tStep w S U).1 49 0) : PX w (tStep w S U).1 (tStep w S U).2 := by
  obtain ⟨⟨hP, pr, qv, w0⟩, ⟨pl, pk⟩, ⟨s52, s49⟩, _⟩ := px
  have hP' := PI_step hP
  exact ⟨⟨hP', PR_step hP w0.1 qv pr, QV_step hP w0 qv, w0⟩, ⟨PL_step hP hm qv pl s52 s49 e, PK_step hP hm pk e⟩, ⟨e, hP'.2.1.1⟩, p5⟩
theorem c_kind (c : CR h v) (ti : TI R A T w p0 v S U) (e50 : S 50 0 = wKind)
    (q1 : ∀ h' v' A' p0' S' U', tKind w S U = (S', U') → CR h' v' → TI R A' T w p0' v' S' U' → Fw (Xo R) v v' → RM (R 9) v v' (300 * (S' 47 0 - S 47 0)) (2000 * (S' 47 0 - S 47 0)) → S 47 0 ≤ S' 47 0 → S' 48 0 = S 48 0 → S' 51 0 ≠ -2 → Q (Sum.inl none) h')
    (q2 : ∀ h' v' p, CR h' v' → WO R v v' S 12 120 p → doom w (tKind w S U) p → Q (Sum.inr (R 2)) h') : Cl (r + 1) 82 [vR (some (R 0))] h Q := by
  have ti' := ti
  obtain ⟨g, rk, kl, mt, px⟩ := ti'
  have g' := g
  obtain ⟨g1, g2, g3, g4, g5, g6, ⟨g7, g8⟩, g9, ga, gb, gc, gd, ge, gf, gg⟩ := g'
  have px' := px
  obtain ⟨⟨hP, pr, qv, w0⟩, ⟨pl, pk⟩, ⟨s52, s49⟩, p5⟩ := px'
  have n3 := g3.2.2.2
  obtain ⟨r1, r2, r3, r4, r5⟩ := rk
  have t4 := mt.2.2.1.1
  have t9 : T (R 9) = 3 := g6.2.2.2.2.2.2.1.2.1
  have n49 : R 4 ≠ R 9 := fun e => by rw [e, t9] at t4; omega
  have k9 : hK v.1 (R 9) = 4 := by obtain ⟨L, a, _⟩ := g9; exact a.1.choose_spec.1.1
  have si := hP.1
  have tk := hP.2.1
  have s51 : S 51 0 = 0 := Classical.byContradiction (fun z => by have := tk.2.2.2 z; rw [this] at e50; exact absurd e50 (by decide))
  have hm : tMore S = true := more_of s52 (Or.inr (by omega))
  have st : tStep w S U = tKind w S U := by unfold tStep; rw [if_pos g8, if_pos e50]
  have xo : ∀ {v1 : vT}, Fw (Xq (R 0) (R 2)) v v1 → Fw (Xo R) v v1 := fun f => f.mono (fun a k y => by
    rcases y with y | y
    · exact Or.inl ⟨y.1, by omega⟩
    · exact Or.inr (Or.inl y))
  have mlc := GT_cp g qv
  refine kd_head (U := U) (w := w) c g1 s52 g2.2.1 g2.2.2.1 r2 r3 ⟨by omega, by omega⟩ (by rw [r4, rowL_len]) (fun u3 n1 e n3' e5 z5 h1 v1 na nb c1 f1 t1 tn1 tn2 b1 b2 b3 => ?_) (fun h1 v1 p c1 f1 w6 b1 b2 b3 dm => ?_)
  · have ek := tKind_e (w := w) (U := U) u3 n1 e n3' e5
    obtain ⟨f53, f54, f47, f49, f50, f51⟩ := tName_g n1
    obtain ⟨k53, k54, k47, k49, k50, k51⟩ := tName_g n3'
    have si1 := SI_adv si
    have tk1 := TK_adv si.1
    have a47 := tAdv_47 si
    obtain ⟨si2, tk2, _, _, x48, x52, x47⟩ := nm_name si1 tk1 n1
    have c47 := tAdv_47 si1
    have si3 := SI_adv si2
    have tk3 := TK_adv si2.1
    have b47 := tAdv_47 si2
    obtain ⟨si4, tk4, _, _, y48, y52, y47⟩ := nm_name si3 tk3 n3'
    have d47 := tAdv_47 si3
    have si5 := SI_adv si4
    have e47 := tAdv_47 si4
    have w49 : tAdv S 49 0 < tAdv S 47 0 := tk1.2.2.1 (fun y => (tIsN_iff.mp n1).1 (tk1.2.2.2 (by omega)))
    have w4 : tName (tAdv (tName (tAdv S))) 49 0 < tName (tAdv (tName (tAdv S))) 47 0 := tk4.2.2.1 (by omega)
    have e52 : tAdv (tName (tAdv (tName (tAdv S)))) 52 0 = -1 := by rw [tAdv_52, y52, tAdv_52, x52, tAdv_52]; exact s52
    have e48 : tAdv (tName (tAdv (tName (tAdv S)))) 48 0 = S 48 0 := by rw [tAdv_55.2.2.1, y48, tAdv_55.2.2.1, x48, tAdv_55.2.2.1]
    have e55 : tAdv (tName (tAdv (tName (tAdv S)))) 55 0 = 0 := by rw [tAdv_55.1, (nm_name si3 tk3 n3').2.2.1, tAdv_55.1, (nm_name si1 tk1 n1).2.2.1, tAdv_55.1]; exact g8
    have v2000 := (SI_v si1).2.2
    have v2000' := (SI_v si3).2.2
    have kk : ∀ x p, kO U w x p = -1 ∨ (0 ≤ kO U w x p ∧ kO U w x p < U 3 w) := fun x p => by have := kO_b (U := U) (w := w) (x := x) (a := p) n3; omega
    have nx9 : ¬ Xq (R 0) (R 2) (R 9) 99 := fun y => by rcases y with y | y <;> omega
    have nxa : ∀ {a n k : Nat}, hK v.1 a = n → n ≠ 0 → n ≠ 2 → n ≠ 3 → ¬ Xq (R 0) (R 2) a k := fun {a n k} e h0 h2 h3 y => by
      rcases y with y | y
      · rw [y.1, g1.w0.1] at e; omega
      · rw [y.1, g1.w0.2.1] at e; omega
    obtain ⟨L, l1, l2, l3, l4⟩ := ML_len (R := R) g9 qv
    have ml1 : ML v1 (R 9) (insA [] L) := ML_fw f1 l1 nx9 (fun a k y _ e => nxa e (by decide) (by decide) (by decide) y)
    have ls1 : vLs v1 (R 4) = rowL (A 0) 0 (U 3 w) := by rw [(f1.cc (hK_lt r3 (by decide)) (nxa r3 (by decide) (by decide) (by decide))).1]; exact r4
    have mp1 : vMp v1 (R 5) = vMp v (R 5) := (f1.cc (hK_lt g3.2.2.1 (by decide)) (nxa g3.2.2.1 (by decide) (by decide) (by decide))).2.1
    have cp1 : vCp v1 (R 9) = vCp v (R 9) := (f1.cc (hK_lt k9 (by decide)) nx9).2.2.1
    refine kd_tail (U := U) (w := w) (p0 := p0) (A := A 0) c1 (RUn_fw f1 g2 (fun y => by rcases y with y | y <;> omega) (fun k _ => nxa g2.2.2.1 (by decide) (by decide) (by decide))) (by rw [(f1.ff (hK_lt r1 (by decide)) (nxa r1 (by decide) (by decide) (by decide))).2.2]; exact r2) (f1.kk r3 (by decide)) n49 (f1.kk k9 (by decide)) ml1 (by omega) tn1 tn2 (tIsN_iff.mp n1).1 (tIsN_iff.mp n3').1 (by rw [mp1]; exact KL_sm kl (by omega)) ls1 u3 (KMp_fw f1 g3 (nxa g3.2.2.1 (by decide) (by decide) (by decide))) ⟨by omega, by omega, by omega⟩ ⟨by omega, by omega, by omega⟩ kk (fun h2 v2 nk c2 f2 hnk k7 fl l' mp ml2 rm => ?_)
    have F : Fw (fun a k => Xq (R 0) (R 2) a k ∨ ((a = R 4 ∨ a = R 5 ∨ a = R 9) ∧ k = 99)) v v2 := (f1.mono (fun _ _ y => Or.inl y)).trans (f2.mono (fun _ _ y => Or.inr y))
    have x1' : ∀ {a : Nat}, hK v1.1 a = 10 → ¬ ((a = R 4 ∨ a = R 5 ∨ a = R 9) ∧ (99 : Nat) = 99) := fun {a} e y => by
      rcases y.1 with z | z | z
      · rw [z, f1.kk r3 (by decide)] at e; exact absurd e (by decide)
      · rw [z, f1.kk g3.2.2.1 (by decide)] at e; exact absurd e (by decide)
      · rw [z, f1.kk k9 (by decide)] at e; exact absurd e (by decide)
    have tx2 : vTx v2 na = vTx v1 na := (f2.cc (hK_lt tn1.1 (by decide)) (x1' tn1.1)).2.2.2
    have tn1' : TN1 v2 na (tAdv S 50 0) := ⟨f2.kk tn1.1 (by decide), by rw [tx2]; exact tn1.2.1, by rw [tx2]; exact tn1.2.2⟩
    have k0 := g1.w0.1
    have pt2 : PT v2 (R 0) (R 1) (R 2) (tAdv (tName (tAdv (tName (tAdv S))))) := PT_fw f2 t1 (fun k hk y => by omega) (fun k y => by
        have z := t1.w0.2.2
        rcases y.1 with e | e | e
        · rw [e, f1.kk r3 (by decide)] at z; exact absurd z (by decide)
        · rw [e, f1.kk g3.2.2.1 (by decide)] at z; exact absurd z (by decide)
        · rw [e, f1.kk k9 (by decide)] at z; exact absurd z (by decide)) (fun a y => by
        rcases y.1 with e | e | e
        · rw [e, f1.kk r3 (by decide)]; exact ⟨by decide, by decide⟩
        · rw [e, f1.kk g3.2.2.1 (by decide)]; exact ⟨by decide, by decide⟩
        · rw [e, f1.kk k9 (by decide)]; exact ⟨by decide, by decide⟩)
    have se : tStep w S U = (tAdv (tName (tAdv (tName (tAdv S)))), nkU w (w * 16 + U 3 w) (tAdv S 50 0) (tAdv S 49 0) (tAdv (tName (tAdv S)) 50 0) (tAdv (tName (tAdv S)) 49 0) (tName (tAdv (tName (tAdv S))) 49 0) U) := by rw [st, ek]
    have px2 : PX w (tAdv (tName (tAdv (tName (tAdv S))))) (nkU w (w * 16 + U 3 w) (tAdv S 50 0) (tAdv S 49 0) (tAdv (tName (tAdv S)) 50 0) (tAdv (tName (tAdv S)) 49 0) (tName (tAdv (tName (tAdv S))) 49 0) U) := by
      have z := PX_step px hm
      rw [se] at z
      refine z e52 (fun k k0 k1 => ?_)
      show nkU w (w * 16 + U 3 w) (tAdv S 50 0) (tAdv S 49 0) (tAdv (tName (tAdv S)) 50 0) (tAdv (tName (tAdv S)) 49 0) (tName (tAdv (tName (tAdv S))) 49 0) U 5 (w * 16 + k) ≤ tAdv (tName (tAdv (tName (tAdv S)))) 49 0
      by_cases y : k = U 3 w
      · rw [y, nkU_v.2.1]; omega
      · rw [nkU_k (f := 5) (by omega) (by omega)]
        have k1' : k < U 3 w + 1 := by
          have k1'' : k < nkU w (w * 16 + U 3 w) (tAdv S 50 0) (tAdv S 49 0) (tAdv (tName (tAdv S)) 50 0) (tAdv (tName (tAdv S)) 49 0) (tName (tAdv (tName (tAdv S))) 49 0) U 3 w := k1
          rw [nkU_3] at k1''
          exact k1''
        have := p5 k k0 (by omega)
        omega
    refine q1 h2 v2 _ _ _ _ ek c2 (TI_kind ti rfl u3 ⟨by omega, by omega, by omega⟩ F pt2 px2 e55 (by omega) tn1' (tIsN_iff.mp n1).1 k7 fl l' (fun t => by rw [mp t, tx2, mp1]) ⟨L, l2, ml2⟩ ⟨g4, by omega⟩) ?_ ?_ (by omega) e48 z5
    · refine (xo f1).trans (f2.mono (fun a k y => Or.inr (Or.inr ⟨y.2, ?_⟩)))
      rcases y.1 with e | e | e
      · exact ⟨4, by decide, by decide, e⟩
      · exact ⟨5, by decide, by decide, e⟩
      · exact ⟨9, by decide, by decide, e⟩
    · obtain ⟨y1, y2, y3, y4, y5⟩ := rm
      have hf1 := f1.1
      exact ⟨by omega, by omega, by omega, by rw [← cp1]; omega, by rw [← cp1]; exact y5⟩
  · have cp1 : vCp v1 (R 9) = vCp v (R 9) := (f1.cc (hK_lt k9 (by decide)) (fun y => by rcases y with y | y <;> omega)).2.2.1
    have le := g1.le
    refine q2 h1 v1 p c1 ⟨xo f1, ⟨f1.1, by omega, b2, by rw [cp1]; omega, by rw [cp1]; exact Nat.le_refl _⟩, w6, by rw [cp1]; omega⟩ dm
end CKD
