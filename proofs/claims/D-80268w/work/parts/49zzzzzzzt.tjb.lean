/-! COMPONENT, 99: behind the block of a method: the invariant *-/
section TJB
variable {R : Nat → Nat} {A A' : Nat → Int → Nat} {T T' : Nat → Nat} {w p0 num : Int} {v v' : vT} {S S3 U3 V : tSt}
theorem par_fu {U U' : tSt} {k : Int} (h : FU w U U') (w0 : 0 ≤ w ∧ w ≤ 1) (n3 : 4 ≤ U 3 w ∧ U 3 w ≤ 16) (hk : k < 16) : par U' w k = par U w k := by
  unfold par
  rw [kO_fu h w0 n3, h.fk (f := 7) (by decide) (by omega), h.fk (f := 8) (by decide) (by omega)]
theorem TJ_blk (tj : TJ R A T w p0 v S V) (pr : PR w V) (qv : QV V) (w0 : 0 ≤ w ∧ w ≤ 1) (h9 : 1 ≤ V 9 w ∧ V 9 w ≤ 12) (iso : tIsO S = true) (mx : Fw (Xb (R 0) (R 2) T) v v') (ae : AE w V A A' T T') (ts : ∀ a, a < hN v.1 → T' a = T a) (fu : FU w (oU w 0 (-1) num 18 (w * 12 + (V 9 w - 1)) S V) U3)
    (g' : GI R A' T' w (-1) p0 v' S3 U3) (pr3 : PR w U3) (qv3 : QV U3) (h55 : S3 55 0 = 0) : TJ R A' T' w p0 (vpR v' (A 1 (V 9 w - 1)) 8 (some (A' 3 (w * 1024 + V 40 w)))) S3 U3 := by
  obtain ⟨g, rk, kl, mt⟩ := tj
  have gT := GI_GT g' w0.1 h55
  obtain ⟨g1, g2, g3, g4, g5, g6, ⟨g7, g8⟩, g9, ga, gb, gc, gd, ge, gf, gg⟩ := g
  obtain ⟨⟨m1, m2, m3⟩, ⟨m4, m5, m6⟩, ⟨t4, t6, ne46, ne57⟩, m7⟩ := mt
  have n3 := g3.2.2.2
  have k0 := g1.w0.1
  have k2 := g1.w0.2.1
  have k5 := g3.2.2.1
  have k7 := m5.1
  have b40 := pr.2.1
  have oo : ∀ f, f ≤ 17 → oU w 0 (-1) num 18 (w * 12 + (V 9 w - 1)) S V f = V f := fun f hf => oU_o (by omega) (by omega)
  have u : ∀ f j, f ≤ 17 → j < 1000000 → U3 f j = V f j := fun f j hf hj => by rw [fu.fk (by omega) hj, oo f hf]
  have u18 : ∀ j, j < 1000000 → j ≠ w * 12 + (V 9 w - 1) → U3 18 j = V 18 j := fun j hj ne => by
    rw [fu.fk (by omega) hj]
    unfold oU
    rw [up_eq, if_neg (fun z => ne z.2), tOU_o (by decide)]
  have u18n : U3 18 (w * 12 + (V 9 w - 1)) = w * 1024 + V 40 w := by
    rw [fu.fk (by omega) (by omega)]
    exact (oU_v iso (by decide)).2.2.2.2.2
  have kO3 : ∀ y a, kO U3 w y a = kO V w y a := fun y a => by
    rw [kO_fu fu w0 (by rw [oo 3 (by decide)]; exact n3)]
    unfold kO
    rw [oo 3 (by decide), oo 4 (by decide), oo 6 (by decide)]
  have mO3 : ∀ y, mO U3 w y = mO V w y := fun y => by
    unfold mO
    rw [u 9 w (by decide) (by omega)]
    exact tFst_congr _ _ (fun j a b => by rw [u 10 _ (by decide) (by omega)])
  have a0 : A' 0 = A 0 := ae.2.2.2.1
  have a1 : A' 1 = A 1 := ae.2.2.2.2.1
  have xm : XM v T (hN v.1) (Xb (R 0) (R 2) T) := fun a k y _ => by
    rcases y with y | y | y | y
    · exact Or.inl (Or.inl (by rw [y.1]; exact k0))
    · exact Or.inr (Or.inl (by rw [y.1]; exact k2))
    · exact Or.inr (Or.inr (Or.inl ⟨y.1, by have := y.2; omega⟩))
    · exact Or.inr (Or.inr (Or.inr (Or.inl ⟨Or.inr y.1, y.2⟩)))
  have n5 : ∀ {a n k : Nat}, hK v.1 a = n → n ≠ 0 → n ≠ 2 → n ≠ 3 → n ≠ 4 → n ≠ 22 → ¬ Xb (R 0) (R 2) T a k := fun {a n k} e h0 h2 h3 h4 h22 y => by
    have t := g5.1 a (by rw [e]; exact h0) (by rw [e]; exact h4) (by rw [e]; exact h22)
    rcases y with y | y | y | y
    · rw [y.1, k0] at e; omega
    · rw [y.1, k2] at e; omega
    · omega
    · omega
  have x6 : ∀ l, T l = 6 → ¬ Xb (R 0) (R 2) T l 99 := fun l tl y => by
    rcases y with y | y | y | y
    · omega
    · omega
    · omega
    · omega
  have ht : ∀ a, T a ≠ 0 → T' a = T a := fun a ha => by
    by_cases l : a < hN v.1
    · exact ts a l
    · exact absurd (g5.2 a (by omega)) ha
  have kam := (m7 (V 9 w - 1) (by omega) (by omega)).1
  have ne5 : R 3 ≠ A 1 (V 9 w - 1) := fun e => by have := g2.2.2.1; rw [e, kam] at this; exact absurd this (by decide)
  have f2 : Fw (fun a k => a = A 1 (V 9 w - 1) ∧ k = 8) v' (vpR v' (A 1 (V 9 w - 1)) 8 (some (A' 3 (w * 1024 + V 40 w)))) := Fw.refl.pR (Or.inr ⟨rfl, rfl⟩)
  have F : Fw (fun a k => Xb (R 0) (R 2) T a k ∨ (a = A 1 (V 9 w - 1) ∧ k = 8)) v (vpR v' (A 1 (V 9 w - 1)) 8 (some (A' 3 (w * 1024 + V 40 w)))) := (mx.mono (fun _ _ y => Or.inl y)).trans (f2.mono (fun _ _ y => Or.inr y))
  have v8 : hR (vpR v' (A 1 (V 9 w - 1)) 8 (some (A' 3 (w * 1024 + V 40 w)))).1 (A 1 (V 9 w - 1)) 8 = some (A' 3 (w * 1024 + V 40 w)) := by rw [vpR_1, hR_putR, if_pos ⟨rfl, rfl⟩]
  generalize (vpR v' (A 1 (V 9 w - 1)) 8 (some (A' 3 (w * 1024 + V 40 w)))) = v2 at *
  have kam' := mx.kk kam (by decide)
  refine ⟨?_, ?_, ?_, ?_⟩
  · have gT' := gT
    obtain ⟨d1, d2, d3, d4, d5, d6, ⟨d7, d8⟩, ⟨L, d9, d10⟩, _⟩ := gT'
    have xn : ∀ {a n k : Nat}, hK v'.1 a = n → n ≠ 18 → ¬ (a = A 1 (V 9 w - 1) ∧ k = 8) := fun {a n k} e hn y => by rw [y.1, kam'] at e; omega
    refine GT_mv (U' := U3) gT pr3.1 qv3 (fun _ _ => rfl) f2 (fun a k y _ => Or.inl (Or.inr (Or.inr (by rw [y.1]; exact kam')))) (fun k hk => xn d1.w0.1 (by decide)) (fun a _ _ y => by omega) (fun a k hk y => ?_) rfl rfl rfl rfl (fun _ _ _ => rfl) (Or.inl (fun _ _ => rfl)) (PT_fw f2 d1 (fun k hk y => by omega) (fun k => xn d1.w0.2.2 (by decide)) (fun a y => by omega)) d8 (KMp_fw f2 d3 (fun y => by omega)) d4 (TG_fw f2 d5) (fun _ _ => rfl) ⟨L, ML_fw f2 d9 (fun y => by omega) (fun a k y hk => by omega), d10⟩
    rw [y.1, d5.1 _ (by rw [kam']; decide) (by rw [kam']; decide) (by rw [kam']; decide)]
    decide
  · rw [a0]
    refine RK_mv rk F (fun y => ?_) (fun y => ?_) (fun a k y e => ?_) (u 3 w (by decide) (by omega)) (fun k _ k1 => u 5 _ (by decide) (by omega)) (fun k _ k1 => ?_)
    · rcases y with y | y
      · exact n5 rk.1 (by decide) (by decide) (by decide) (by decide) (by decide) y
      · exact ne5 y.1
    · rcases y with y | y
      · exact x6 _ t4 y
      · omega
    · rcases y with y | y
      · exact n5 e (by decide) (by decide) (by decide) (by decide) (by decide) y
      · rw [y.1, kam] at e; exact absurd e (by decide)
    · unfold par
      rw [kO3, u 7 _ (by decide) (by omega), u 8 _ (by decide) (by omega)]
  · rw [u 3 w (by decide) (by omega)]
    refine KL_fw F k5 (fun y => ?_) kl
    rcases y with y | y
    · exact n5 k5 (by decide) (by decide) (by decide) (by decide) (by decide) y
    · omega
  · have u9 : U3 9 w = V 9 w := u 9 w (by decide) (by omega)
    have r3 := fun j => F.ff (k := j) (hK_lt g2.2.2.1 (by decide)) (fun y => by
      rcases y with y | y
      · exact n5 g2.2.2.1 (by decide) (by decide) (by decide) (by decide) (by decide) y
      · exact ne5 y.1)
    have x7 : ¬ (Xb (R 0) (R 2) T (R 7) 99 ∨ (R 7 = A 1 (V 9 w - 1) ∧ (99 : Nat) = 8)) := fun y => by
      rcases y with y | y
      · exact n5 k7 (by decide) (by decide) (by decide) (by decide) (by decide) y
      · omega
    refine ⟨⟨by rw [(r3 2).2.2]; exact m1, F.kk m2 (by decide), ?_⟩, ⟨by rw [(r3 3).2.2]; exact m4, ⟨F.kk k7 (by decide), fun t ok => ?_⟩, ?_⟩, ⟨by rw [ht _ (by omega)]; exact t4, by rw [ht _ (by omega)]; exact t6, ne46, ne57⟩, fun m h0 h1 => ?_⟩
    · rw [(F.cc (hK_lt m2 (by decide)) (fun y => by
        rcases y with y | y
        · exact x6 _ t6 y
        · omega)).1, a1, u9]
      exact m3
    · rw [(F.cc (hK_lt k7 (by decide)) x7).2.1, a1, mO3]
      exact m5.2 t ok
    · rw [u9]
      exact KL_fw F k7 x7 m6
    · rw [u9] at h1
      have mf := m7 m h0 h1
      by_cases e : m = V 9 w - 1
      · obtain ⟨q1, q2, q3, q4, q5, q6, q7, ⟨l, q8, q9, qa⟩, qb⟩ := mf
        rw [← e] at v8 u18n
        have qq := fun j (hj : j ≠ 8) => F.ff (k := j) (hK_lt q1 (by decide)) (fun y => by
          rcases y with y | y
          · exact n5 q1 (by decide) (by decide) (by decide) (by decide) (by decide) y
          · exact hj y.2)
        have xmF : XM v T (hN v.1) (fun a k => Xb (R 0) (R 2) T a k ∨ (a = A 1 (V 9 w - 1) ∧ k = 8)) := fun a k y l => by
          rcases y with y | y
          · exact xm a k y l
          · exact Or.inl (Or.inr (Or.inr (by rw [y.1]; exact kam)))
        unfold MF
        rw [a1, u 11 _ (by decide) (by omega), u 12 _ (by decide) (by omega), u 13 _ (by decide) (by omega), u 14 _ (by decide) (by omega), u 15 _ (by decide) (by omega), u18n, (qq 1 (by decide)).1, (qq 2 (by decide)).1, (qq 3 (by decide)).1, (qq 4 (by decide)).2.2, (qq 5 (by decide)).1, (qq 6 (by decide)).2.2, (qq 7 (by decide)).2.2, v8, a0, optA_s (by omega)]
        refine ⟨F.kk q1 (by decide), q2, q3, q4, q5, fun z => ⟨TXn_fm F xmF g5.1 (q6 z).1, (q6 z).2⟩, q7, ⟨l, q8, by rw [ht _ (by omega)]; exact q9, ?_⟩, rfl⟩
        exact NL_cg (NL_m F xmF g5.1 q9 qa) (fun i i0 i1 => by
          have b15 := QV_b qv (f := 15) (c := 4) rfl rfl rfl (w * 12 + m)
          rw [kO3, u 16 _ (by decide) (by omega), u 17 _ (by decide) (by omega)]
          exact ⟨rfl, rfl⟩)
      · have xmF : XM v T (hN v.1) (fun a k => Xb (R 0) (R 2) T a k ∨ (a = A 1 (V 9 w - 1) ∧ k = 8)) := fun a k y l => by
          rcases y with y | y
          · exact xm a k y l
          · exact Or.inl (Or.inr (Or.inr (by rw [y.1]; exact kam)))
        have b15 := QV_b qv (f := 15) (c := 4) rfl rfl rfl (w * 12 + m)
        refine MF_mv mf F xmF (fun k y => ?_) g5.1 ht (by rw [a1]) ?_ (fun j hj => ?_) (fun i i0 i1 => ⟨u 16 _ (by decide) (by omega), u 17 _ (by decide) (by omega)⟩) (fun i i0 i1 => by rw [a0, kO3])
        · rcases y with y | y
          · exact n5 mf.1 (by decide) (by decide) (by decide) (by decide) (by decide) y
          · have i1 := mf.2.1
            have i2 := (m7 (V 9 w - 1) (by omega) (by omega)).2.1
            rw [y.1, i2, iI_eq (by omega) (by omega) (by omega) (by omega)] at i1
            omega
        · refine optA_cg (fun z => ?_)
          rcases pr.1.2.2 m h0 h1 with y | y
          · exact absurd y z
          · exact ae.2.1 _ y
        · by_cases j18 : j = 18
          · rw [j18]
            exact u18 _ (by omega) (by omega)
          · exact u j _ (by omega) (by omega)
end TJB
