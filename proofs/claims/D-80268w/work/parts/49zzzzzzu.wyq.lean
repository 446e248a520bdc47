/-! COMPONENT, 88: a method's name (way, pc 0-9); its throws (pc 142-150) *-/
section WYQ
variable {r rd tp wr : Nat} {h : am_H} {v : vT} {w : Int} {S U : tSt} {Q : am_O → am_H → Prop}
theorem doom_way1 {x : Int} (s52 : S 52 0 = -1) (si : SI S) (e : S 51 0 = -2) (e50 : S 50 0 = 0) : doom w (tWay1 w x S U) (S 49 0) := by
  unfold tWay1
  rw [if_neg (by rw [e50]; decide)]
  exact doom_way2 s52 si e e50
theorem wy_name (c : CR h v) (t : PT v rd tp wr S) (s52 : S 52 0 = -1) (u9 : U 9 w ≠ 12)
    (q1 : tIsN (tAdv S) = true → tName (tAdv S) 51 0 ≠ -2 → ∀ h' v' nm, CR h' v' → Fw (Xq rd wr) v v' → PT v' rd tp wr (tName (tAdv S)) → TN1 v' nm (tAdv S 50 0) → hI v'.1 rd 14 = iI (tAdv S 49 0) → (hN v'.1 : Int) ≤ hN v.1 + 20 * (tName (tAdv S) 47 0 - S 47 0) + 4 → hS v.1 ≤ hS v'.1 → (hS v'.1 : Int) ≤ hS v.1 + 200 * (tName (tAdv S) 47 0 - S 47 0) + 40 → Rn r 84 9 [some (vR (some rd)), some (vR (some nm)), none, none] [] h' Q)
    (q2 : ∀ h' v' p, CR h' v' → Fw (Xq rd wr) v v' → hI v'.1 wr 6 = iI p → (hN v'.1 : Int) ≤ hN v.1 + 20 * (S 48 0 - S 47 0) + 4 → hS v.1 ≤ hS v'.1 → (hS v'.1 : Int) ≤ hS v.1 + 200 * (S 48 0 - S 47 0) + 40 → doom w (tWay w S U) p → Q (Sum.inr wr) h') : Cl r 84 [vR (some rd)] h Q := by
  have kr := t.w0.1
  have si0 := t.2.1
  have le0 := t.le
  have si1 := SI_adv si0
  have tk1 := TK_adv si0.1
  have a47 := tAdv_47 si0
  have e521 : tAdv S 52 0 = -1 := by rw [tAdv_52]; exact s52
  have e481 : tAdv S 48 0 = S 48 0 := by rw [tAdv_55.2.2.1]
  have le1 : tAdv S 47 0 ≤ S 48 0 := by have := si1.1.2.1; omega
  rw [eX1_way, sX1_way_0, sX1_way_1 (c.kk kr (by decide))]
  refine t_next c t (fun z1 h1 v1 c1 f1 t1 b1 b2 b3 _ => ?_) (fun z1 h1 v1 c1 wg => ?_)
  · have kr1 := t1.w0.1
    rw [Kt_0, sX1_way_4, sX1_way_5 (c1.kk kr1 (by decide))]
    refine t_name c1 t1 (fun n1 z2 h2 v2 nm c2 f2 t2 nA d1 d2 d3 => ?_) (fun n1 z2 h2 v2 c2 wg => ?_) (fun n1 h2 v2 c2 wg => ?_)
    · obtain ⟨f53, f54, _⟩ := tName_g n1
      rw [Kt_v, sX1_way_8]
      exact q1 n1 z2 h2 v2 nm c2 (f1.trans f2) t2 ⟨nA.1, by rw [nA.2.1, f53], nA.2.2.1⟩ (by rw [nA.2.2.2, f54]) (by omega) (by omega) (by omega)
    · rw [Kt_x]
      obtain ⟨si2, tk2, _, _, g48, g52, g47⟩ := nm_name si1 tk1 n1
      obtain ⟨g1, g2, g3, g4, g5⟩ := wg
      refine q2 h2 v2 _ c2 (f1.trans g1) g2 (by omega) (by omega) (by omega) ?_
      unfold tWay
      rw [if_neg u9, if_pos n1]
      exact doom_way1 (by rw [g52]; exact e521) si2 z2 (tk2.2.2.2 (by omega))
    · rw [Kt_x]
      obtain ⟨g1, g2, g3, g4, g5⟩ := wg
      refine q2 h2 v2 _ c2 (f1.trans g1) g2 (by omega) (by omega) (by omega) ?_
      unfold tWay
      rw [if_neg u9, if_neg n1]
      exact doom_fail e521 si1
  · rw [Kt_x]
    obtain ⟨g1, g2, g3, g4, g5⟩ := wg
    refine q2 h1 v1 _ c1 g1 g2 (by omega) (by omega) (by omega) ?_
    unfold tWay
    rw [if_neg u9, if_neg (fun y => (tIsN_iff.mp y).1 (tk1.2.2.2 (by omega)))]
    exact doom_fail e521 si1
end WYQ
