/-! COMPONENT, 44: a block of a statement in hand is read *-/
section OWN
variable {r f : Nat} {h : am_H} {R : Nat → Nat} {A Ah : Nat → Int → Nat} {T Th : Nat → Nat} {w s b0 p0 c d what num i : Int} {v vh : vT} {S Sh U Uh : tSt} {o : Option Nat} {Q : am_O → am_H → Prop}
theorem doom_opn {own p : Int} (s52 : S 52 0 = -1) (si : SI S) (h1 : tIsO S = true → doom w (oS S (w * 1024 + U 40 w), oU w what own num f i S U) p) (h2 : tIsO S ≠ true → p = S 49 0) : doom w (tOpn w what own num f i S U) p := by
  by_cases y : tIsO S = true
  · rw [tOpn_e y]
    exact h1 y
  · rw [h2 y]
    have e : tOpn w what own num f i S U = (tFail S, (tOpn w what own num f i S U).2) := Prod.ext (tOpn_f y) rfl
    rw [e]
    exact doom_fail s52 si
theorem own_block (blc : BLC r R w p0) (cr : CR h v) (g : GI R A T w s p0 v S U) (hP : PI w S U) (pr : PR w U) (qv : QV U) (w0 : 0 ≤ w ∧ w ≤ 1) (hsA : As w U s) (e22 : U 22 s = S 56 (S 55 0 - 1)) (hw : what ≠ 0 ∧ (what = 4 → U 20 s = 5 ∨ U 20 s = 6)) (ch : CH S U) (d1 : 1 ≤ S 55 0) (s52 : S 52 0 = -1) (hr : 9 - S 55 0 ≤ r) (cx : CX R w b0 Ah Th vh Uh A T v U c d) (hs : 120 * w + Uh 19 w ≤ s) (n0 : 0 ≤ Uh 19 w)
    (hf : (f = 27 ∨ f = 28 ∨ f = 29) ∧ i = s ∨ f = 34 ∧ 4 * s ≤ i ∧ i < 4 * s + 4) (hP1 : tIsO S = true → PI w (oS S (w * 1024 + U 40 w)) (oU w what s num f i S U) ∧ PR w (oU w what s num f i S U) ∧ QV (oU w what s num f i S U))
    (ar : tIsO S = true → FX w s U (oU w what s num f i S U) → AR v A (oU w what s num f i S U) (w * 1024 + U 40 w + 2).toNat (w * 1024 + U 40 w) o)
    (q1 : tIsO S = true → ∀ h' v' A' T' S' U3, CR h' v' → GI R A' T' w s p0 v' S' U3 → (PI w S' U3 ∧ PR w U3 ∧ QV U3) → CX R w b0 Ah Th vh Uh A' T' v' U3 (c + (300 * (S' 47 0 - S 47 0) - 250)) (d + (2000 * (S' 47 0 - S 47 0) - 1700)) → AE w U A A' T T' → (∀ a, a < hN v.1 → T' a = T a) → Fw (Xb (R 0) (R 2) T) v v' → FU w (oU w what s num f i S U) U3 →
      tGo w (tOpn w what s num f i S U) (tShut w (w * 1024 + U 40 w) S' U3) → S' 51 0 ≠ -2 → S' 52 0 = -1 → S' 55 0 = S 55 0 → (∀ i, i < S 55 0 → S' 56 i = S 56 i) → S' 48 0 = S 48 0 → S 47 0 < S' 47 0 → FB v' A' T' U3 w (w * 1024 + U 40 w) → (U3 41 (w * 1024 + U 40 w) = what ∧ U3 42 (w * 1024 + U 40 w) = s) → (∀ d' b' o', Ab w U b' → AR v A U d' b' o' → AR v' A' U3 d' b' o') → Q (Sum.inl (some (vR (some (A' 3 (w * 1024 + U 40 w)))))) h')
    (hc : c ≤ 300 * (S 47 0 - Sh 47 0) + 60) (hd : d ≤ 2000 * (S 47 0 - Sh 47 0) + 800) (e55 : S 55 0 = Sh 55 0) (e48 : S 48 0 = Sh 48 0)
    (q2 : ∀ h' v' p, CR h' v' → WX R Th vh v' Sh (20 - 2 * Sh 55 0) p → doom w (tOpn w what s num f i S U) p → Q (Sum.inr (R 2)) h') : Cl r 134 [vR (some (R 0)), vR o] h Q := by
  have s0 : 0 ≤ s := by have := hsA.1; omega
  have f4 : f < 40 := by omega
  refine blc h v A T S U (oU w what s num f i S U) s (w * 1024 + U 40 w) o Q cr g ⟨hP, pr, qv, w0⟩ s52 rfl hr (Or.inr hsA) (fun p => ?_) (fun p h' v' A' T' S3 U3 c' mx ae ts fu le e48' G ⟨P3, R3, Q3⟩ go x51 x52 nx x55 x56 x56b fb nw => ?_) (fun h' v' p c' wx dm1 dm2 => ?_)
  · have op := OP_mk g hP pr qv w0 hsA p hf (hP1 p)
    refine ⟨op, ar p op.1, ?_⟩
    obtain ⟨o55, o56⟩ := oS_v (S := S) (b := w * 1024 + U 40 w)
    have c1 := CH_fx (S' := S) w0.1 op.1 hP pr (own_ne hP pr ch d1 e22) d1 rfl (fun _ _ => rfl) ch
    refine ⟨by rw [o56, if_neg (by omega)]; exact c1.1, fun j j1 j2 => ?_⟩
    rw [o56, o56]
    by_cases q : j = S 55 0
    · obtain ⟨_, o2, _⟩ := oU_v (w := w) (what := what) (own := s) (num := num) (i := i) (U := U) p f4
      rw [if_pos q, if_neg (by omega), op.2.1.2.2.1, op.2.2.1.2.2.2.2.2, e22, q, o2, op.2.2.1.1]
      exact ⟨rfl, hw⟩
    · rw [if_neg q, if_neg (by omega)]
      exact c1.2 j j1 (by omega)
  · have op := OP_mk g hP pr qv w0 hsA p hf (hP1 p)
    obtain ⟨o1, o2, o3, o4, o5, o6⟩ := oU_v (w := w) (what := what) (own := s) (num := num) (i := i) (U := U) p f4
    have abn : Ab w (oU w what s num f i S U) (w * 1024 + U 40 w) := ⟨by have := pr.2.1; omega, by rw [o1]; omega⟩
    have e41 : U3 41 (w * 1024 + U 40 w) = what := by rw [fu.fb abn (by decide) (by decide)]; exact o2
    have e42 : U3 42 (w * 1024 + U 40 w) = s := by rw [fu.fb abn (by decide) (by decide)]; exact o3
    have d0 := hP.1.2.2.2.2.2.2.2.1
    have hx := op.1
    have e19 : oU w what s num f i S U 19 w = U 19 w := op.2.1.1
    have k0 := g.1.w0.1
    have k2 := g.1.w0.2.1
    have tg := g.2.2.2.2.1.1
    have lt47 : S 47 0 < xS S3 47 0 := by
      have := mx.2.1
      have := mx.2.2.1
      omega
    refine q1 p h' v' A' T' (xS S3) U3 c' G ⟨P3, R3, Q3⟩ (cx.blk hx e19 hs s0 w0.1 n0 mx ae ts fu nw) ae ts mx.1 fu ?_ nx (by rw [xS_f (by decide) (by decide) (by decide) (by decide) (by decide)]; exact x52) (by rw [xS_v]; omega) (fun j hj => by rw [xS_f (by decide) (by decide) (by decide) (by decide) (by decide)]; exact x56 j hj) e48' lt47 fb ⟨e41, e42⟩ (fun d' b' o' hb' y => ?_)
    · rw [tOpn_e p]
      refine tGo_trans go ?_
      have st : tStep w S3 U3 = tShut w (w * 1024 + U 40 w) (xS S3) U3 := by
        unfold tStep
        rw [if_neg (by omega), if_pos x51]
        unfold tClose
        rw [show S3 55 0 - 1 = S 55 0 by omega, x56b, show S 55 0 = S3 55 0 - 1 by omega]
        rfl
      rw [← st]
      exact tGo_one (more_of x52 (Or.inl (by omega)))
    · have y1 := AR_fw mx.1 (fun a k z => by
        rcases z with z | z | z | z
        · rw [z.1, k0]
          exact ⟨by decide, fun y => absurd y (by decide), fun _ => by decide⟩
        · rw [z.1, k2]
          exact ⟨by decide, fun y => absurd y (by decide), fun _ => by decide⟩
        · have t0 : hK v.1 a = 20 ∨ hK v.1 a = 10 → T a = 0 := fun q => by
            rcases q with q | q
            · exact tg a (by rw [q]; decide) (by rw [q]; decide) (by rw [q]; decide)
            · exact tg a (by rw [q]; decide) (by rw [q]; decide) (by rw [q]; decide)
          refine ⟨fun q => ?_, fun q => by omega, fun _ q => ?_⟩
          · have := t0 (Or.inl q)
            omega
          · have := t0 (Or.inr q)
            omega
        · refine ⟨fun q => ?_, fun q => by omega, fun q => by omega⟩
          have := tg a (by rw [q]; decide) (by rw [q]; decide) (by rw [q]; decide)
          omega) _ _ _ y
      have y2 := AR_ae ae pr.1 qv _ _ _ hb' y1
      have y3 := AR_fx hx pr.1 qv _ _ _ hb' y2
      have hb1 : Ab w (oU w what s num f i S U) b' := ⟨hb'.1, by have := hb'.2; omega⟩
      have := (hP1 p).2
      exact AR_fu fu this.1.1 this.2 _ _ _ hb1 y3
  · refine q2 h' v' p c' (wx.pre' cx.1 cx.2.2.1 (by omega) (by omega) e48) (doom_opn s52 hP.1 dm1 dm2)
end OWN
