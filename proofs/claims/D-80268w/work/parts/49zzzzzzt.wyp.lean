/-! COMPONENT, 87: over and free of a method (way, pc 95-142) *-/
section WYP
variable {r rd tp wr a nm0 : Nat} {h : am_H} {v : vT} {w x : Int} {S U : tSt} {Q : am_O → am_H → Prop} {l3 : Option am_V}
theorem wc10 : wN (cT 10) = wOver := rfl
theorem wc11 : wN (cT 11) = wFree := rfl
theorem doom_way4 (s52 : S 52 0 = -1) (si : SI S) (e : S 51 0 = -2) : doom w (tWay4 w x S U) (S 49 0) := by
  unfold tWay4
  rw [if_neg (by omega)]
  exact doom_opn s52 si (fun p => by have := (tIsO_iff.mp p).1; omega) (fun _ => rfl)
theorem doom_way3 (s52 : S 52 0 = -1) (si : SI S) (e : S 51 0 = -2) (e50 : S 50 0 = 0) : doom w (tWay3 w x S U) (S 49 0) := by
  unfold tWay3
  rw [if_neg (by rw [e50]; decide)]
  exact doom_way4 s52 si e
theorem doom_way2 (s52 : S 52 0 = -1) (si : SI S) (e : S 51 0 = -2) (e50 : S 50 0 = 0) : doom w (tWay2 w x S U) (S 49 0) := by
  unfold tWay2
  rw [if_neg (by rw [e50]; decide)]
  exact doom_way3 s52 si e e50
theorem wy_over (c : CR h v) (t : PT v rd tp wr S) (s52 : S 52 0 = -1) (ka : hK v.1 a = 18)
    (q0 : S 50 0 ≠ wOver → Rn r 84 124 [some (vR (some rd)), some (vR (some nm0)), some (vR (some a)), l3] [] h Q)
    (q1 : S 50 0 = wOver → tIsN (tAdv S) = true → tName (tAdv S) 51 0 ≠ -2 → ∀ h' v' nm, CR h' v' → Fw (fun b k => Xq rd wr b k ∨ (b = a ∧ (k = 4 ∨ k = 5))) v v' → PT v' rd tp wr (tName (tAdv S)) → TN1 v' nm (tAdv S 50 0) → hR v'.1 a 4 = some nm → hI v'.1 a 5 = iI (tAdv S 49 0) → (hN v'.1 : Int) ≤ hN v.1 + 20 * (tName (tAdv S) 47 0 - S 47 0) + 4 → hS v.1 ≤ hS v'.1 → (hS v'.1 : Int) ≤ hS v.1 + 200 * (tName (tAdv S) 47 0 - S 47 0) + 40 → Rn r 84 124 [some (vR (some rd)), some (vR (some nm0)), some (vR (some a)), l3] [] h' Q)
    (q2 : ∀ h' v' p, CR h' v' → Fw (Xq rd wr) v v' → hI v'.1 wr 6 = iI p → (hN v'.1 : Int) ≤ hN v.1 + 20 * (S 48 0 - S 47 0) + 4 → hS v.1 ≤ hS v'.1 → (hS v'.1 : Int) ≤ hS v.1 + 200 * (S 48 0 - S 47 0) + 40 → doom w (tWay1 w x S U) p → Q (Sum.inr wr) h') :
    Rn r 84 95 [some (vR (some rd)), some (vR (some nm0)), some (vR (some a)), l3] [] h Q := by
  have kr := t.w0.1
  have si0 := t.2.1
  have le0 := t.le
  have si1 := SI_adv si0
  have tk1 := TK_adv si0.1
  have a47 := tAdv_47 si0
  have e521 : tAdv S 52 0 = -1 := by rw [tAdv_52]; exact s52
  have e481 : tAdv S 48 0 = S 48 0 := by rw [tAdv_55.2.2.1]
  have le1 : tAdv S 47 0 ≤ S 48 0 := by have := si1.1.2.1; omega
  rw [sX1_way_95, sX1_way_96, sX1_way_98 (c.kk kr (by decide)), c.he, t_isWord c t (by decide) (by unfold lts cT; decide) (by unfold cT; decide), Kt_v, sX1_way_101, i_0, wc10]
  by_cases e : S 50 0 = wOver
  · rw [if_neg (fun y => (bI_0.mp y) e), sX1_way_104, sX1_way_105 (c.kk kr (by decide))]
    refine t_next c t (fun z1 h1 v1 c1 f1 t1 b1 b2 b3 _ => ?_) (fun z1 h1 v1 c1 wg => ?_)
    · have kr1 := t1.w0.1
      rw [Kt_0, sX1_way_108, sX1_way_109, sX1_way_110 (c1.kk kr1 (by decide))]
      refine t_name c1 t1 (fun n1 z2 h2 v2 nm c2 f2 t2 nA d1 d2 d3 => ?_) (fun n1 z2 h2 v2 c2 wg => ?_) (fun n1 h2 v2 c2 wg => ?_)
      · obtain ⟨f53, f54, _⟩ := tName_g n1
        have F2 := f1.trans f2
        have ka2 := F2.kk ka (by decide)
        have kr2 := t2.w0.1
        have nar : a ≠ rd := fun q => by rw [q, kr] at ka; exact absurd ka (by decide)
        have kr3 : hK (vpR v2 a 4 (some nm)).1 rd = 2 := kr2
        have c3 := CR_pR (k := 4) (z := some nm) c2 ka2 rfl
        have i14 : hI (vpR v2 a 4 (some nm)).1 rd 14 = iI (tAdv S 49 0) := by rw [vpR_1, hI_putR, nA.2.2.2, f54]
        rw [Kt_v, sX1_way_113 (c2.kk ka2 (by decide)), sX1_way_116, sX1_way_117, sX1_way_118 (c3.kk kr3 (by decide)), c3.ii kr3 rfl, i14, sX1_way_121 (c3.kk (by exact ka2) (by decide))]
        have c4 := CR_pI (k := 5) (x := iI (tAdv S 49 0)) c3 (by exact ka2) rfl
        have f4 : Fw (fun b k => b = a ∧ (k = 4 ∨ k = 5)) v2 (vpI (vpR v2 a 4 (some nm)) a 5 (iI (tAdv S 49 0))) := (Fw.refl.pR (Or.inr ⟨rfl, Or.inl rfl⟩)).pI (Or.inr ⟨rfl, Or.inr rfl⟩)
        have tn : TN1 v2 nm (tAdv S 50 0) := ⟨nA.1, by rw [nA.2.1, f53], nA.2.2.1⟩
        have tpa : ∀ k, ¬ (tp = a ∧ (k = 4 ∨ k = 5)) := fun k y => by have := t2.w0.2.2; rw [y.1, ka2] at this; exact absurd this (by decide)
        refine q1 e n1 z2 _ _ nm c4 ((F2.mono (fun _ _ y => Or.inl y)).trans (f4.mono (fun _ _ y => Or.inr y))) (PT_fw f4 t2 (fun k _ y => nar y.1.symm) tpa (fun b y => by omega)) ?_ ?_ ?_ (by show ((hN v2.1 : Nat) : Int) ≤ _; omega) (by show _ ≤ hS v2.1; omega) (by show ((hS v2.1 : Nat) : Int) ≤ _; omega)
        · have tx := (f4.cc (hK_lt tn.1 (by decide)) (fun y => by omega)).2.2.2
          exact ⟨f4.kk tn.1 (by decide), by rw [tx]; exact tn.2.1, by rw [tx]; exact tn.2.2⟩
        · rw [vpI_1, hR_putI, vpR_1, hR_putR, if_pos ⟨rfl, rfl⟩]
        · rw [vpI_1, hI_putI, if_pos ⟨rfl, rfl⟩]
      · rw [Kt_x]
        obtain ⟨si2, tk2, _, _, g48, g52, g47⟩ := nm_name si1 tk1 n1
        obtain ⟨g1, g2, g3, g4, g5⟩ := wg
        refine q2 h2 v2 _ c2 (f1.trans g1) g2 (by omega) (by omega) (by omega) ?_
        unfold tWay1
        rw [if_pos e, if_pos n1]
        exact doom_way2 (by rw [g52]; exact e521) si2 z2 (tk2.2.2.2 (by omega))
      · rw [Kt_x]
        obtain ⟨g1, g2, g3, g4, g5⟩ := wg
        refine q2 h2 v2 _ c2 (f1.trans g1) g2 (by omega) (by omega) (by omega) ?_
        unfold tWay1
        rw [if_pos e, if_neg n1]
        exact doom_fail e521 si1
    · rw [Kt_x]
      obtain ⟨g1, g2, g3, g4, g5⟩ := wg
      refine q2 h1 v1 _ c1 g1 g2 (by omega) (by omega) (by omega) ?_
      unfold tWay1
      rw [if_pos e, if_neg (fun y => (tIsN_iff.mp y).1 (tk1.2.2.2 (by omega)))]
      exact doom_fail e521 si1
  · rw [if_pos (bI_0.mpr e)]
    exact q0 e
theorem wy_free (c : CR h v) (t : PT v rd tp wr S) (s52 : S 52 0 = -1) (ka : hK v.1 a = 18)
    (q0 : S 50 0 ≠ wFree → Rn r 84 142 [some (vR (some rd)), some (vR (some nm0)), some (vR (some a)), l3] [] h Q)
    (q1 : S 50 0 = wFree → tAdv S 51 0 ≠ -2 → ∀ h' v', CR h' v' → Fw (fun b k => Xq rd wr b k ∨ (b = a ∧ k = 3)) v v' → PT v' rd tp wr (tAdv S) → hI v'.1 a 3 = 1 → (hN v'.1 : Int) ≤ hN v.1 + 20 * (tAdv S 47 0 - S 47 0) → hS v.1 ≤ hS v'.1 → (hS v'.1 : Int) ≤ hS v.1 + 200 * (tAdv S 47 0 - S 47 0) → Rn r 84 142 [some (vR (some rd)), some (vR (some nm0)), some (vR (some a)), l3] [] h' Q)
    (q2 : ∀ h' v' p, CR h' v' → Wg rd wr 0 0 v v' p → doom w (tWay2 w x S U) p → Q (Sum.inr wr) h') :
    Rn r 84 124 [some (vR (some rd)), some (vR (some nm0)), some (vR (some a)), l3] [] h Q := by
  have kr := t.w0.1
  have si0 := t.2.1
  have si1 := SI_adv si0
  have tk1 := TK_adv si0.1
  have e521 : tAdv S 52 0 = -1 := by rw [tAdv_52]; exact s52
  rw [sX1_way_124, sX1_way_125, sX1_way_127 (c.kk kr (by decide)), c.he, t_isWord c t (by decide) (by unfold lts cT; decide) (by unfold cT; decide), Kt_v, sX1_way_130, i_0, wc11]
  by_cases e : S 50 0 = wFree
  · rw [if_neg (fun y => (bI_0.mp y) e), sX1_way_133, sX1_way_134 (c.kk kr (by decide))]
    refine t_next c t (fun z1 h1 v1 c1 f1 t1 b1 b2 b3 _ => ?_) (fun z1 h1 v1 c1 wg => ?_)
    · have ka1 := f1.kk ka (by decide)
      have fit1 : am_fit 4 (1 : Int32) = true := rfl
      have nar : a ≠ rd := fun q => by rw [q, kr] at ka; exact absurd ka (by decide)
      rw [Kt_0, sX1_way_137, sX1_way_138, sX1_way_139 (c1.kk ka1 (by decide)) fit1]
      have c2 := CR_pI (k := 3) (x := (1 : Int32)) c1 ka1 rfl
      have f2 : Fw (fun b k => b = a ∧ k = 3) v1 (vpI v1 a 3 1) := Fw.refl.pI (Or.inr ⟨rfl, rfl⟩)
      have tpa : ∀ k, ¬ (tp = a ∧ k = 3) := fun k y => by have := t1.w0.2.2; rw [y.1, ka1] at this; exact absurd this (by decide)
      exact q1 e z1 _ _ c2 ((f1.mono (fun _ _ y => Or.inl y)).trans (f2.mono (fun _ _ y => Or.inr y))) (PT_fw f2 t1 (fun k _ y => nar y.1.symm) tpa (fun b y => by omega)) (by rw [vpI_1, hI_putI, if_pos ⟨rfl, rfl⟩]) b1 b2 b3
    · rw [Kt_x]
      refine q2 h1 v1 _ c1 wg ?_
      unfold tWay2
      rw [if_pos e]
      exact doom_way3 e521 si1 z1 (tk1.2.2.2 (by omega))
  · rw [if_pos (bI_0.mpr e)]
    exact q0 e
end WYP
