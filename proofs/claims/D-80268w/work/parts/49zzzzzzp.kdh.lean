/-! COMPONENT, 83: the tokens of a kind (kind, pc 0-61) *-/
section KDH
variable {r rd tp wr u lk : Nat} {h : am_H} {v : vT} {w : Int} {S U : tSt} {Q : am_O → am_H → Prop}
theorem wc8 : wN (cT 8) = wBelow := rfl
/-- a name's text -/
def TN1 (v : vT) (a : Nat) (x : Int) : Prop := hK v.1 a = 10 ∧ wN (vTx v a) = x ∧ okK (vTx v a)
theorem TN1_q {v' : vT} {a : Nat} {x : Int} (kr : hK v.1 rd = 2) (kw : hK v.1 wr = 3) (f : Fw (Xq rd wr) v v') (t : TN1 v a x) : TN1 v' a x := by
  obtain ⟨t1, t2, t3⟩ := t
  have e : vTx v' a = vTx v a := (f.cc (hK_lt t1 (by decide)) (fun y => by rcases y with y | y; omega; omega)).2.2.2
  exact ⟨f.kk t1 (by decide), by rw [e]; exact t2, by rw [e]; exact t3⟩
theorem kd_head (c : CR h v) (t : PT v rd tp wr S) (s52 : S 52 0 = -1) (r7 : hR v.1 rd 7 = some u) (ku : hK v.1 u = 5) (r0 : hR v.1 u 0 = some lk) (kl : hK v.1 lk = 4) (u3 : 0 ≤ U 3 w ∧ U 3 w ≤ 16) (len : (vLs v lk).length = (U 3 w).toNat)
    (q1 : U 3 w ≠ 16 → tIsN (tAdv S) = true → tName (tAdv S) 50 0 = wBelow → tIsN (tAdv (tName (tAdv S))) = true → tName (tAdv (tName (tAdv S))) 51 0 = 59 → tAdv (tName (tAdv (tName (tAdv S)))) 51 0 ≠ -2 → ∀ h' v' n1 n2, CR h' v' → Fw (Xq rd wr) v v' → PT v' rd tp wr (tAdv (tName (tAdv (tName (tAdv S))))) → TN1 v' n1 (tAdv S 50 0) → TN1 v' n2 (tAdv (tName (tAdv S)) 50 0) → (hN v'.1 : Int) ≤ hN v.1 + 20 * (tAdv (tName (tAdv (tName (tAdv S)))) 47 0 - S 47 0) + 8 → hS v.1 ≤ hS v'.1 → (hS v'.1 : Int) ≤ hS v.1 + 200 * (tAdv (tName (tAdv (tName (tAdv S)))) 47 0 - S 47 0) + 80 → Rn r 82 61 [some (vR (some rd)), some (vR (some n1)), some (vI (iI (tAdv S 49 0))), some (vR (some n2)), some (vI (iI (tAdv (tName (tAdv S)) 49 0))), none] [] h' Q)
    (q2 : ∀ h' v' p, CR h' v' → Fw (Xq rd wr) v v' → hI v'.1 wr 6 = iI p → (hN v'.1 : Int) ≤ hN v.1 + 20 * (S 48 0 - S 47 0) + 12 → hS v.1 ≤ hS v'.1 → (hS v'.1 : Int) ≤ hS v.1 + 200 * (S 48 0 - S 47 0) + 120 → doom w (tKind w S U) p → Q (Sum.inr wr) h') : Cl r 82 [vR (some rd)] h Q := by
  have kr := t.w0.1
  have kw := t.w0.2.1
  have si0 := t.2.1
  have le0 := t.le
  have si1 := SI_adv si0
  have tk1 := TK_adv si0.1
  have a47 := tAdv_47 si0
  have e521 : tAdv S 52 0 = -1 := by rw [tAdv_52]; exact s52
  have e481 : tAdv S 48 0 = S 48 0 := by rw [tAdv_55.2.2.1]
  have le1 : tAdv S 47 0 ≤ S 48 0 := by have := si1.1.2.1; omega
  have krh := c.kk kr (by decide)
  have key : Rn r 82 21 [some (vR (some rd)), none, none, none, none, none] [vI (bI (U 3 w ≠ 16)), vR (some rd)] h Q := by
    rw [sX1_kind_21 krh]
    refine t_need c t (fun p => ?_) (fun p h' v' c' wg => ?_)
    · rw [Kt_0, sX1_kind_24, sX1_kind_25 krh]
      refine t_next c t (fun z1 h1 v1 c1 f1 t1 b1 b2 b3 _ => ?_) (fun z1 h1 v1 c1 wg => ?_)
      · have kr1 := t1.w0.1
        have kw1 := t1.w0.2.1
        rw [Kt_0, sX1_kind_28, sX1_kind_29 (c1.kk kr1 (by decide))]
        refine t_name c1 t1 (fun n1 z2 h2 v2 nm c2 f2 t2 nA d1 d2 d3 => ?_) (fun n1 z2 h2 v2 c2 wg => ?_) (fun n1 h2 v2 c2 wg => ?_)
        · obtain ⟨f53, f54, f47, f49, f50, f51⟩ := tName_g n1
          obtain ⟨si2, tk2, _, _, g48, g52, g47⟩ := nm_name si1 tk1 n1
          have kr2 := t2.w0.1
          have kw2 := t2.w0.2.1
          have F2 := f1.trans f2
          have si3 := SI_adv si2
          have tk3 := TK_adv si2.1
          have b47 := tAdv_47 si2
          have e523 : tAdv (tName (tAdv S)) 52 0 = -1 := by rw [tAdv_52, g52]; exact e521
          have e483 : tAdv (tName (tAdv S)) 48 0 = S 48 0 := by rw [tAdv_55.2.2.1, g48]; exact e481
          have le3 : tAdv (tName (tAdv S)) 47 0 ≤ S 48 0 := by have := si3.1.2.1; omega
          have tn2 : TN1 v2 nm (tAdv S 50 0) := ⟨nA.1, by rw [nA.2.1, f53], nA.2.2.1⟩
          have e14 : hI h2 rd 14 = iI (tAdv S 49 0) := by rw [c2.ii kr2 rfl, nA.2.2.2, f54]
          rw [Kt_v, sX1_kind_32, sX1_kind_33, sX1_kind_34 (c2.kk kr2 (by decide)), e14, sX1_kind_37, sX1_kind_38, sX1_kind_39, sX1_kind_41 (c2.kk kr2 (by decide)), c2.he]
          refine t_wantW (k := 8) c2 t2 (by decide) (by unfold lts cT; decide) (by unfold cT; decide) (fun e z3 h3 v3 c3 f3 t3 x1 x2 x3 _ => ?_) (fun e z3 h3 v3 c3 wg => ?_) (fun e h3 v3 c3 wg => ?_)
          · rw [wc8] at e
            have kr3 := t3.w0.1
            have kw3 := t3.w0.2.1
            have tn3 := TN1_q kr2 kw2 f3 tn2
            rw [Kt_0, sX1_kind_44, sX1_kind_45 (c3.kk kr3 (by decide))]
            refine t_name c3 t3 (fun n3 z4 h4 v4 nm4 c4 f4 t4 nA4 y1 y2 y3 => ?_) (fun n3 z4 h4 v4 c4 wg => ?_) (fun n3 h4 v4 c4 wg => ?_)
            · obtain ⟨k53, k54, k47, k49, k50, k51⟩ := tName_g n3
              obtain ⟨si4, tk4, _, _, m48, m52, m47⟩ := nm_name si3 tk3 n3
              have kr4 := t4.w0.1
              have kw4 := t4.w0.2.1
              have c47 := tAdv_47 si4
              have e524 : tName (tAdv (tName (tAdv S))) 52 0 = -1 := by rw [m52]; exact e523
              have e485 : tAdv (tName (tAdv (tName (tAdv S)))) 48 0 = S 48 0 := by rw [tAdv_55.2.2.1, m48]; exact e483
              have le5 : tAdv (tName (tAdv (tName (tAdv S)))) 47 0 ≤ S 48 0 := by have := (SI_adv si4).1.2.1; omega
              have tn4 := TN1_q kr3 kw3 f4 tn3
              have tm4 : TN1 v4 nm4 (tAdv (tName (tAdv S)) 50 0) := ⟨nA4.1, by rw [nA4.2.1, k53], nA4.2.2.1⟩
              have e14' : hI h4 rd 14 = iI (tAdv (tName (tAdv S)) 49 0) := by rw [c4.ii kr4 rfl, nA4.2.2.2, k54]
              have F4 := F2.trans (f3.trans f4)
              rw [Kt_v, sX1_kind_48, sX1_kind_49, sX1_kind_50 (c4.kk kr4 (by decide)), e14', sX1_kind_53, sX1_kind_55, sX1_kind_56, sX1_kind_58 (c4.kk kr4 (by decide)), i_59]
              refine t_want c4 t4 (by omega) (fun e5 z5 h5 v5 c5 f5 t5 w1 w2 w3 _ => ?_) (fun e5 z5 h5 v5 c5 wg => ?_) (fun e5 h5 v5 c5 wg => ?_)
              · rw [Kt_0]
                exact q1 p n1 e n3 e5 z5 h5 v5 nm nm4 c5 (F4.trans f5) t5 (TN1_q kr4 kw4 f5 tn4) (TN1_q kr4 kw4 f5 tm4) (by omega) (by omega) (by omega)
              · rw [Kt_x]
                obtain ⟨g1, g2, g3, g4, g5⟩ := wg
                refine q2 h5 v5 _ c5 (F4.trans g1) g2 (by omega) (by omega) (by omega) ?_
                unfold tKind tKind2 tKind3
                rw [if_neg p, if_pos n1, if_pos e, if_pos n3, if_pos e5]
                exact doom_bad (by rw [tAdv_52]; exact e524) (SI_adv si4) (TK_adv si4.1) z5
              · rw [Kt_x]
                obtain ⟨g1, g2, g3, g4, g5⟩ := wg
                refine q2 h5 v5 _ c5 (F4.trans g1) g2 (by omega) (by omega) (by omega) ?_
                unfold tKind tKind2 tKind3
                rw [if_neg p, if_pos n1, if_pos e, if_pos n3, if_neg e5]
                exact doom_fail e524 si4
            · rw [Kt_x]
              obtain ⟨si4, tk4, _, _, m48, m52, m47⟩ := nm_name si3 tk3 n3
              obtain ⟨g1, g2, g3, g4, g5⟩ := wg
              refine q2 h4 v4 _ c4 ((F2.trans f3).trans g1) g2 (by omega) (by omega) (by omega) ?_
              unfold tKind tKind2 tKind3
              rw [if_neg p, if_pos n1, if_pos e, if_pos n3, if_neg (by omega)]
              exact doom_fail (by rw [m52]; exact e523) si4
            · rw [Kt_x]
              obtain ⟨g1, g2, g3, g4, g5⟩ := wg
              refine q2 h4 v4 _ c4 ((F2.trans f3).trans g1) g2 (by omega) (by omega) (by omega) ?_
              unfold tKind tKind2
              rw [if_neg p, if_pos n1, if_pos e, if_neg n3]
              exact doom_fail e523 si3
          · rw [wc8] at e
            rw [Kt_x]
            obtain ⟨g1, g2, g3, g4, g5⟩ := wg
            refine q2 h3 v3 _ c3 (F2.trans g1) g2 (by omega) (by omega) (by omega) ?_
            unfold tKind tKind2
            rw [if_neg p, if_pos n1, if_pos e, if_neg (fun y => (tIsN_iff.mp y).1 (tk3.2.2.2 (by omega)))]
            exact doom_fail e523 si3
          · rw [wc8] at e
            rw [Kt_x]
            obtain ⟨g1, g2, g3, g4, g5⟩ := wg
            refine q2 h3 v3 _ c3 (F2.trans g1) g2 (by omega) (by omega) (by omega) ?_
            unfold tKind tKind2
            rw [if_neg p, if_pos n1, if_neg e]
            exact doom_fail (by rw [g52]; exact e521) si2
        · rw [Kt_x]
          obtain ⟨si2, tk2, _, _, g48, g52, g47⟩ := nm_name si1 tk1 n1
          obtain ⟨g1, g2, g3, g4, g5⟩ := wg
          refine q2 h2 v2 _ c2 (f1.trans g1) g2 (by omega) (by omega) (by omega) ?_
          unfold tKind tKind2
          rw [if_neg p, if_pos n1, if_neg (by rw [tk2.2.2.2 (by omega)]; decide)]
          exact doom_fail (by rw [g52]; exact e521) si2
        · rw [Kt_x]
          obtain ⟨g1, g2, g3, g4, g5⟩ := wg
          refine q2 h2 v2 _ c2 (f1.trans g1) g2 (by omega) (by omega) (by omega) ?_
          unfold tKind
          rw [if_neg p, if_neg n1]
          exact doom_fail e521 si1
      · rw [Kt_x]
        obtain ⟨g1, g2, g3, g4, g5⟩ := wg
        refine q2 h1 v1 _ c1 g1 g2 (by omega) (by omega) (by omega) ?_
        unfold tKind
        rw [if_neg p, if_neg (fun y => (tIsN_iff.mp y).1 (tk1.2.2.2 (by omega)))]
        exact doom_fail e521 si1
    · rw [Kt_x]
      obtain ⟨g1, g2, g3, g4, g5⟩ := wg
      refine q2 h' v' _ c' g1 g2 (by omega) (by omega) (by omega) ?_
      unfold tKind
      rw [if_pos (by omega)]
      exact doom_fail s52 si0
  rw [eX1_kind, sX1_kind_0, sX1_kind_1, sX1_kind_2 krh, c.rr kr rfl, r7, sX1_kind_5 (c.kk ku (by decide)), c.rr ku rfl, r0, sX1_kind_8 (c.kk kl (by decide)), v_size c kl, Kt_v, sX1_kind_11, sX1_kind_13, i_16, len]
  unfold bI at key
  by_cases e : U 3 w = 16
  · rw [if_pos (by rw [iI_le (by omega) (by omega) (by omega) (by omega)]; omega), sX1_kind_20]
    rw [if_neg (c := U 3 w ≠ 16) (fun y => y e)] at key
    exact key
  · rw [if_neg (by rw [iI_le (by omega) (by omega) (by omega) (by omega)]; omega), sX1_kind_16, sX1_kind_17]
    rw [if_pos (c := U 3 w ≠ 16) e] at key
    exact key
end KDH
