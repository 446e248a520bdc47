/-! COMPONENT, 104: the loop of read (33, pc 70-134) *-/
section RDL
variable {R : Nat → Nat} {w : Int} {r : Nat} {Q : am_O → am_H → Prop} {l1 l2 : Option am_V}
theorem wc5 : wN (cT 5) = wKind := rfl
theorem wc9 : wN (cT 9) = wWay := rfl
theorem Xp_tr {T T1 : Nat → Nat} {v v1 v2 : vT} (f : Fw (Xp R T) v v1) (g : Fw (Xp R T1) v1 v2) (t : ∀ a, a < hN v.1 → T1 a = T a) : Fw (Xp R T) v v2 := f.tr2 g (fun a k y => by
  by_cases l : a < hN v.1
  · right
    unfold Xp at y ⊢
    rw [t a l] at y
    exact y
  · left
    omega)
theorem rd_loop (blc : ∀ p0, BLC r R w p0) (hr : 9 ≤ r) : ∀ (d : Nat) (h : am_H) (v : vT) (A : Nat → Int → Nat) (T : Nat → Nat) (p0 : Int) (S U : tSt), (S 48 0 - S 49 0).toNat < d → CR h v → TI R A T w p0 v S U → S 51 0 ≠ -2 →
    (∀ h' v' A' T' p0' S' U', tGo w (S, U) (S', U') → CR h' v' → TI R A' T' w p0' v' S' U' → S' 51 0 = -1 → Fw (Xp R T) v v' → RM (R 9) v v' (300 * (S' 47 0 - S 47 0)) (2000 * (S' 47 0 - S 47 0)) → (∀ a, a < hN v.1 → T' a = T a) → S 47 0 ≤ S' 47 0 → S' 48 0 = S 48 0 → Rn (r + 1) 33 134 [some (vR (some (R 0))), l1, l2] [] h' Q) → WY2 R T w v S U Q → Rn (r + 1) 33 70 [some (vR (some (R 0))), l1, l2] [] h Q := by
  intro d
  induction d with
  | zero => intro h v A T p0 S U hd; omega
  | succ d ih =>
    intro h v A T p0 S U hd c ti n51 q1 q2
    have ti' := ti
    obtain ⟨g, rk, kl, mt, px⟩ := ti'
    have tj : TJ R A T w p0 v S U := ⟨g, rk, kl, mt⟩
    have g1 := g.1
    have g2 := g.2.1
    have g8 := g.2.2.2.2.2.2.1.2
    have px' := px
    obtain ⟨⟨hP, pr, qv, w0⟩, ⟨pl, pk⟩, ⟨s52, s49⟩, p5⟩ := px'
    have b9 := QV_b qv (f := 9) (c := 12) rfl rfl rfl w
    have k0 := g1.w0.1
    have si := hP.1
    have tk := hP.2.1
    have le := g1.le
    have k9 : hK v.1 (R 9) = 4 := by obtain ⟨L, a, _⟩ := g.2.2.2.2.2.2.2.1; exact a.1.choose_spec.1.1
    have cpv := GT_cp g qv
    have e6 : hI h (R 0) 6 = iI (S 51 0) := by rw [c.ii k0 rfl]; exact g1.1.2.2.2.1
    have s51r := si.2.2.2.1
    have i1 : iI (S 51 0) = iI (-1) ↔ S 51 0 = -1 := iI_eq (by omega) (by omega) (by omega) (by omega)
    rw [sX1_read_70, sX1_read_71 (c.kk k0 (by decide)), e6, sX1_read_74, sX1_read_75, i_m1]
    by_cases e : S 51 0 = -1
    · rw [if_pos (i1.mpr e)]
      exact q1 h v A T p0 S U (tGo_refl _) c ti e Fw.refl ⟨Nat.le_refl _, by omega, Nat.le_refl _, by omega, Nat.le_refl _⟩ (fun _ _ => rfl) (Int.le_refl _) rfl
    · rw [if_neg (fun y => e (i1.mp y)), sX1_read_78, sX1_read_79, sX1_read_81 (c.kk k0 (by decide)), c.he, t_isWord c g1 (by decide) (by unfold lts cT; decide) (by unfold cT; decide), Kt_v, sX1_read_84, i_0, wc5]
      have hm : tMore S = true := more_of s52 (Or.inr e)
      -- the rest of the loop behind one step
      have go : ∀ (h' : am_H) (v' : vT) (A' : Nat → Int → Nat) (T' : Nat → Nat) (p0' : Int) (S' U' : tSt), tGo w (tStep w S U) (S', U') → CR h' v' → TI R A' T' w p0' v' S' U' → Fw (Xp R T) v v' → RM (R 9) v v' (300 * (S' 47 0 - S 47 0)) (2000 * (S' 47 0 - S 47 0)) → (∀ a, a < hN v.1 → T' a = T a) → S' 51 0 ≠ -2 → S 47 0 ≤ S' 47 0 → S' 48 0 = S 48 0 → Rn (r + 1) 33 70 [some (vR (some (R 0))), l1, l2] [] h' Q := by
        intro h' v' A' T' p0' S' U' gs c' ti2 f' rm' t' n' l47 e48
        have px2 := ti2.2.2.2.2
        have goS : tGo w (S, U) (S', U') := tGo_trans (tGo_one hm) gs
        have lt := tGo_lt (w := w) (X := (S, U)) (Y := (S', U')) gs hP hm px2.2.2.1.1
        have lt3 : S 49 0 < S' 49 0 := lt
        have le' := ti2.1.1.le
        have tk' := px2.1.1.2.1.1
        refine ih h' v' A' T' p0' S' U' (by omega) c' ti2 n' (fun h2 v2 A2 T2 p2 S2 U2 g2 c2 t2 e2 f2 rm2 tt2 x47 x48 => ?_) (fun h2 v2 p c2 f2 rm2 w6 cp dm => ?_)
        · exact q1 h2 v2 A2 T2 p2 S2 U2 (tGo_trans goS g2) c2 t2 e2 (Xp_tr f' f2 t') ((rm'.trans rm2).le (by omega) (by omega)) (fun a ha => by rw [tt2 a (by have := f'.1; omega), t' a ha]) (by omega) (by omega)
        · exact q2 h2 v2 p c2 (Xp_tr f' f2 t') ((rm'.trans rm2).le (by omega) (by omega)) w6 cp (doom_go goS dm)
      by_cases ek : S 50 0 = wKind
      · rw [if_neg (fun y => (bI_0.mp y) ek), sX1_read_87, sX1_read_88 (c.kk k0 (by decide))]
        have st : tStep w S U = tKind w S U := by unfold tStep; rw [if_pos g8, if_pos ek]
        refine c_kind c ti ek (fun h' v' A' p0' S' U' tk' c' ti2 f' rm' l47 e48 n' => ?_) (fun h' v' p c' wo dm => ?_)
        · rw [Kt_0, sX1_read_91]
          exact go h' v' A' T p0' S' U' (by rw [st, tk']; exact tGo_refl _) c' ti2 (f'.mono (fun _ _ y => Or.inl y)) rm' (fun _ _ => rfl) n' l47 e48
        · rw [Kt_x]
          obtain ⟨y1, y2, y3, y4⟩ := wo
          exact q2 h' v' p c' (y1.mono (fun _ _ y => Or.inl y)) (y2.le (by omega) (by omega)) y3 y4 (doom_step s52 (Or.inr e) (by rw [st]; exact dm))
      · rw [if_pos (bI_0.mpr ek), sX1_read_94, sX1_read_95, sX1_read_96, sX1_read_98 (c.kk k0 (by decide)), c.he, t_isWord c g1 (by decide) (by unfold lts cT; decide) (by unfold cT; decide), Kt_v, sX1_read_101, i_0, wc9]
        have key : Rn (r + 1) 33 124 [some (vR (some (R 0))), l1, l2] [vI (bI (S 50 0 = wWay ∧ U 9 w ≠ 12)), vR (some (R 0))] h Q := by
          rw [sX1_read_124 (c.kk k0 (by decide))]
          refine t_need c g1 (fun p => ?_) (fun p h' v' c' wg => ?_)
          · rw [Kt_0, sX1_read_127, sX1_read_128 (c.kk k0 (by decide))]
            have st : tStep w S U = tWay w S U := by unfold tStep; rw [if_pos g8, if_neg ek, if_pos p.1]
            refine c_way (blc p0) hr c ti p.1 p.2 (fun h' v' A' T' S' U' gs c' ti2 f' rm' t' n' l47 e48 => ?_) (fun h' v' q c' f' rm' w6 cp dm => ?_)
            · rw [Kt_0, sX1_read_131]
              exact go h' v' A' T' p0 S' U' gs c' ti2 f' rm' t' n' l47 e48
            · rw [Kt_x]
              exact q2 h' v' q c' f' rm' w6 cp dm
          · rw [Kt_x]
            obtain ⟨y1, y2, y3, y4, y5⟩ := wg
            have cp1 : vCp v' (R 9) = vCp v (R 9) := (y1.cc (hK_lt k9 (by decide)) (fun y => by rcases y with y | y <;> omega)).2.2.1
            refine q2 h' v' (S 49 0) c' (y1.mono (fun _ _ y => Xq_p y)) ⟨y1.1, by omega, y4, by rw [cp1]; omega, by rw [cp1]; exact Nat.le_refl _⟩ y2 (by rw [cp1]; omega) (doom_step s52 (Or.inr e) ?_)
            unfold tStep
            rw [if_pos g8, if_neg ek]
            by_cases ew : S 50 0 = wWay
            · rw [if_pos ew]
              unfold tWay
              rw [if_pos (Classical.byContradiction (fun z => p ⟨ew, z⟩))]
              exact doom_fail s52 si
            · rw [if_neg ew]
              exact doom_fail s52 si
        by_cases ew : S 50 0 = wWay
        · obtain ⟨m1, m2, m3⟩ := mt.1
          rw [if_neg (fun y => (bI_0.mp y) ew), sX1_read_104, sX1_read_105 (c.kk k0 (by decide)), c.rr k0 rfl, g2.2.1, sX1_read_108 (c.kk g2.2.2.1 (by decide)), c.rr g2.2.2.1 rfl, m1, sX1_read_111 (c.kk m2 (by decide)), v_size c m2, Kt_v, sX1_read_114, sX1_read_116, i_12, m3, rowL_len]
          by_cases e9 : U 9 w = 12
          · rw [if_pos (by rw [iI_le (by omega) (by omega) (by omega) (by omega)]; omega), sX1_read_123]
            rw [bI_f (c := S 50 0 = wWay ∧ U 9 w ≠ 12) (fun y => y.2 e9)] at key
            exact key
          · rw [if_neg (by rw [iI_le (by omega) (by omega) (by omega) (by omega)]; omega), sX1_read_119, sX1_read_120]
            rw [bI_t (c := S 50 0 = wWay ∧ U 9 w ≠ 12) ⟨ew, e9⟩] at key
            exact key
        · rw [if_pos (bI_0.mpr ew), sX1_read_123]
          rw [bI_f (c := S 50 0 = wWay ∧ U 9 w ≠ 12) (fun y => ew y.1)] at key
          exact key
end RDL
