/-! COMPONENT, 76: the catches and the body of a try *-/
section TRJ
variable {r a e l5 l6 l7 l9 : Nat} {h : am_H} {R : Nat → Nat} {A Ah : Nat → Int → Nat} {T Th : Nat → Nat} {w s b0 p0 c d : Int} {v vh : vT} {S Sh U Uh : tSt} {P : tSt × tSt} {o : Option Nat} {N : List (Int × Int)} {Q : am_O → am_H → Prop}
/-- the catches of a try, and what is behind them -/
theorem tr_cat (blc : BLC r R w p0) (hPh : PI w Sh Uh) (prh : PR w Uh) (qvh : QV Uh) (tzh : TZ vh Th) (hsh : 120 * w + Uh 19 w ≤ s) (n0 : 0 ≤ Uh 19 w) (na : hN vh.1 ≤ a) (hMl : N.length ≤ 4) (ls : hN vh.1 ≤ l5 ∧ hN vh.1 ≤ l6 ∧ hN vh.1 ≤ l7 ∧ hN vh.1 ≤ l9) (g00 : tGo w (Sh, Uh) P) (hr : 9 - Sh 55 0 ≤ r)
    (q1 : ∀ h' v' A' T' S' U', CR h' v' → GI R A' T' w (-1) p0 v' S' U' → CX R w b0 Ah Th vh Uh A' T' v' U' (300 * (S' 47 0 - Sh 47 0) - 20) (2000 * (S' 47 0 - Sh 47 0) - 300) → A' 2 s = a → tGo w P (S', U') → AR v' A' U' (U' 22 s + 2).toNat (U' 22 s) o → U' 22 s = S' 56 (S' 55 0 - 1) → S' 52 0 = -1 → S' 55 0 = Sh 55 0 → (∀ i, i < Sh 55 0 → S' 56 i = Sh 56 i) → S' 48 0 = Sh 48 0 → Sh 47 0 ≤ S' 47 0 → Q (Sum.inl none) h')
    (q2 : ∀ h' v' p, CR h' v' → WX R Th vh v' Sh (20 - 2 * Sh 55 0) p → doom w P p → Q (Sum.inr (R 2)) h') : ∀ (n : Nat) (h : am_H) (v : vT) (A : Nat → Int → Nat) (T : Nat → Nat) (S U : tSt), 4 - U 33 s ≤ n → CR h v → MD R A T w s p0 v S U o → CX R w b0 Ah Th vh Uh A T v U (300 * (S 47 0 - Sh 47 0) - 20) (2000 * (S 47 0 - Sh 47 0) - 300) → TF v A T U w s a e o l5 l6 l7 l9 N (U 33 s) → A 2 s = a → tGo w P (tBehind w s false S U) → S 55 0 = Sh 55 0 → (∀ i, i < Sh 55 0 → S 56 i = Sh 56 i) → S 48 0 = Sh 48 0 → Sh 47 0 ≤ S 47 0 →
    Rn (r + 1) 225 146 [some (vR (some (R 0))), some (vR (some a)), some (vR o), some (vR (some e))] [] h Q := by
  intro n
  induction n with
  | zero =>
    intro h v A T S U hn cr md cx tf ea gP e55 e56 e48 e47
    have qv := md.2.1.2.2.1
    have h33 := QV_b qv (f := 33) (c := 4) rfl rfl rfl s
    have u4 : U 33 s = 4 := by omega
    have g := md.1
    have k0 := g.1.w0.1
    have kr := cr.kk k0 (by decide)
    have k1 := tf.1.1
    have t9 := tf.2.2.2.2.2.1
    have s52 := md.2.2.1.2
    have si := g.1.2.1
    have d8 := si.2.2.2.2.2.2.2
    have le := g.1.le
    rw [sX1_tried_146, sX1_tried_147, sX1_tried_150 kr, cr.he, t_isWord cr g.1 (by decide) (by unfold lts cT; decide) (by unfold cT; decide), Kt_v, sX1_tried_153, i_0, wc25]
    by_cases ic : S 50 0 = wCatch
    · have be : tBehind w s false S U = (tFail S, U) := by
        unfold tBehind tCatch
        rw [if_pos ic, if_pos u4]
      rw [if_neg (fun y => (bI_0.mp y) ic), sX1_tried_156, sX1_tried_157, sX1_tried_158 (cr.kk k1 (by decide)), cr.rr k1 rfl, tf.1.2.2.2.2.2.1, sX1_tried_161 (cr.kk t9.1 (by decide)), v_size cr t9.1, Kt_v, sX1_tried_164, sX1_tried_165, i_4, t9.2, rowL_len, if_pos (by rw [iI_le (by omega) (by omega) (by omega) (by omega)]; omega), sX1_tried_172, sX1_tried_173 kr]
      have key := t_need (P := False) (r := r + 1) (Q := Kt (r + 1) 225 176 [some (vR (some (R 0))), some (vR (some a)), some (vR o), some (vR (some e))] [] Q) cr g.1 (fun y => y.elim) (fun _ h2 v3 c2 wg2 => by
        rw [Kt_x]
        refine q2 h2 v3 _ c2 ((Wg_X (k := 1) g qv wg2 (by omega) (by omega) le).pre' cx.1 cx.2.2.1 (by omega) (by omega) e48) (doom_go gP ?_)
        rw [be]
        exact doom_fail s52 si)
      exact key
    · rw [if_pos (bI_0.mpr ic)]
      have d0 := md.2.2.1.1
      refine tr_fin blc hPh prh qvh tzh cr md cx hsh n0 tf ea na hMl ls ic (tGo_trans g00 gP) (by omega) e55 e48 (fun h' v' A' T' S' U' c' G' x' ea' go' ar' e22' s52' y55 y56 y48 y47 => q1 h' v' A' T' S' U' c' G' x' ea' (tGo_trans gP go') ar' e22' s52' (by omega) (fun i hi => by rw [y56 i (by omega)]; exact e56 i hi) (by omega) (by omega)) (fun h' v' p c' wx dm => q2 h' v' p c' wx (doom_go gP dm))
  | succ n ih =>
    intro h v A T S U hn cr md cx tf ea gP e55 e56 e48 e47
    have qv := md.2.1.2.2.1
    have h33 := QV_b qv (f := 33) (c := 4) rfl rfl rfl s
    have g := md.1
    have k0 := g.1.w0.1
    have kr := cr.kk k0 (by decide)
    have k1 := tf.1.1
    have t9 := tf.2.2.2.2.2.1
    have s52 := md.2.2.1.2
    have si := g.1.2.1
    have d8 := si.2.2.2.2.2.2.2
    have le := g.1.le
    rw [sX1_tried_146, sX1_tried_147, sX1_tried_150 kr, cr.he, t_isWord cr g.1 (by decide) (by unfold lts cT; decide) (by unfold cT; decide), Kt_v, sX1_tried_153, i_0, wc25]
    by_cases ic : S 50 0 = wCatch
    · have be : tBehind w s false S U = tCatch w s S U := by
        unfold tBehind
        rw [if_pos ic]
      rw [if_neg (fun y => (bI_0.mp y) ic), sX1_tried_156, sX1_tried_157, sX1_tried_158 (cr.kk k1 (by decide)), cr.rr k1 rfl, tf.1.2.2.2.2.2.1, sX1_tried_161 (cr.kk t9.1 (by decide)), v_size cr t9.1, Kt_v, sX1_tried_164, sX1_tried_165, i_4, t9.2, rowL_len]
      by_cases u4 : U 33 s = 4
      · rw [if_pos (by rw [iI_le (by omega) (by omega) (by omega) (by omega)]; omega), sX1_tried_172, sX1_tried_173 kr]
        have key := t_need (P := False) (r := r + 1) (Q := Kt (r + 1) 225 176 [some (vR (some (R 0))), some (vR (some a)), some (vR o), some (vR (some e))] [] Q) cr g.1 (fun y => y.elim) (fun _ h2 v3 c2 wg2 => by
          rw [Kt_x]
          refine q2 h2 v3 _ c2 ((Wg_X (k := 1) g qv wg2 (by omega) (by omega) le).pre' cx.1 cx.2.2.1 (by omega) (by omega) e48) (doom_go gP ?_)
          rw [be]
          unfold tCatch
          rw [if_pos u4]
          exact doom_fail s52 si)
        exact key
      · rw [if_neg (by rw [iI_le (by omega) (by omega) (by omega) (by omega)]; omega), sX1_tried_168, sX1_tried_169, sX1_tried_173 kr]
        have key := t_need (P := True) (r := r + 1) (Q := Kt (r + 1) 225 176 [some (vR (some (R 0))), some (vR (some a)), some (vR o), some (vR (some e))] [] Q) cr g.1 (fun _ => by
          rw [Kt_0, sX1_tried_176, sX1_tried_177, sX1_tried_178, sX1_tried_179 kr]
          rw [be] at gP
          refine c_caught blc hPh prh qvh cr md cx hsh n0 tf ea hMl ls.2.2.2 u4 (tGo_trans g00 gP) (by omega) e55 e48 (fun h' v' A' T' S' U' c' md' cx' tf' ea' go' y55 y56 y48 y47 y33 => ?_) (fun h' v' p c' wx dm => ?_)
          · rw [Kt_0, sX1_tried_182]
            have d0 := md.2.2.1.1
            exact ih h' v' A' T' S' U' (by omega) c' md' cx' tf' ea' (tGo_trans gP go') (by omega) (fun i hi => by rw [y56 i (by omega)]; exact e56 i hi) (by omega) (by omega)
          · rw [Kt_x]
            exact q2 h' v' p c' wx (doom_go gP dm)) (fun y => absurd trivial y)
        exact key
    · rw [if_pos (bI_0.mpr ic)]
      have d0 := md.2.2.1.1
      refine tr_fin blc hPh prh qvh tzh cr md cx hsh n0 tf ea na hMl ls ic (tGo_trans g00 gP) (by omega) e55 e48 (fun h' v' A' T' S' U' c' G' x' ea' go' ar' e22' s52' y55 y56 y48 y47 => q1 h' v' A' T' S' U' c' G' x' ea' (tGo_trans gP go') ar' e22' s52' (by omega) (fun i hi => by rw [y56 i (by omega)]; exact e56 i hi) (by omega) (by omega)) (fun h' v' p c' wx dm => q2 h' v' p c' wx (doom_go gP dm))
end TRJ
