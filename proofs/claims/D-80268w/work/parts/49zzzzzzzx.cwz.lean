/-! COMPONENT, 103: a method is read (84) *-/
section CWZ
variable {R : Nat → Nat} {A : Nat → Int → Nat} {T : Nat → Nat} {w p0 n p n2 p2 fr cn cs : Int} {h : am_H} {v vk : vT} {S Sk U : tSt} {r am nm : Nat} {Q : am_O → am_H → Prop} {l3 : Option am_V}
/-- where a method's reading goes on, or fails -/
def WY1 (R : Nat → Nat) (T : Nat → Nat) (w p0 : Int) (v : vT) (S U : tSt) (Q : am_O → am_H → Prop) : Prop := ∀ h' v' A' T' S' U', tGo w (tStep w S U) (S', U') → CR h' v' → TI R A' T' w p0 v' S' U' → Fw (Xp R T) v v' → RM (R 9) v v' (300 * (S' 47 0 - S 47 0)) (2000 * (S' 47 0 - S 47 0)) → (∀ a, a < hN v.1 → T' a = T a) → S' 51 0 ≠ -2 → S 47 0 ≤ S' 47 0 → S' 48 0 = S 48 0 → Q (Sum.inl none) h'
def WY2 (R : Nat → Nat) (T : Nat → Nat) (w : Int) (v : vT) (S U : tSt) (Q : am_O → am_H → Prop) : Prop := ∀ h' v' p, CR h' v' → Fw (Xp R T) v v' → RM (R 9) v v' (300 * (S 48 0 - S 47 0) + 1300) (2000 * (S 48 0 - S 47 0) + 17000) → hI v'.1 (R 2) 6 = iI p → vCp v' (R 9) ≤ 6000 → doom w (S, U) p → Q (Sum.inr (R 2)) h'
theorem Xq_p {a k : Nat} (y : Xq (R 0) (R 2) a k) : Xp R T a k := by
  rcases y with y | y
  · exact Or.inl (Or.inl ⟨y.1, by omega⟩)
  · exact Or.inl (Or.inr (Or.inl y))
theorem Xw_p {a k : Nat} (y : Xw R a k) : Xp R T a k := by
  rcases y with y | y | ⟨y | y | y, z⟩
  · exact Xq_p y
  · exact Or.inl (Or.inl ⟨y.1, by omega⟩)
  · exact Or.inl (Or.inr (Or.inr ⟨z, 6, by decide, by decide, y⟩))
  · exact Or.inl (Or.inr (Or.inr ⟨z, 7, by decide, by decide, y⟩))
  · exact Or.inl (Or.inr (Or.inr ⟨z, 9, by decide, by decide, y⟩))
theorem way_st (tj : TJ R A T w p0 v S U) (px : PX w S U) (e50 : S 50 0 = wWay) {q : Int} (d : doom w (tWay w S U) q) : doom w (S, U) q := by
  have g8 := tj.1.2.2.2.2.2.2.1.2
  have tk := px.1.1.2.1
  have s51 : S 51 0 = 0 := Classical.byContradiction (fun z => by have := tk.2.2.2 z; rw [this] at e50; exact absurd e50 (by decide))
  have st : tStep w S U = tWay w S U := by unfold tStep; rw [if_pos g8, if_neg (by rw [e50]; decide), if_pos e50]
  exact doom_step px.2.2.1.1 (Or.inr (by omega)) (by rw [st]; exact d)
/-- a failure in the head -/
theorem AW_bad (tj : TJ R A T w p0 v S U) (px : PX w S U) (e50 : S 50 0 = wWay) (aw : AW R w v S U vk Sk am nm n p n2 p2 fr cn cs) (hcn : cn ≤ 20 * (Sk 47 0 - S 47 0) + 38) (hcs : cs ≤ 200 * (Sk 47 0 - S 47 0) + 500) (q2 : WY2 R T w v S U Q) {h' : am_H} {v' : vT} {q cn' cs' : Int} (c' : CR h' v') (f : Fw (Xq (R 0) (R 2)) vk v') (w6 : hI v'.1 (R 2) 6 = iI q) (b1 : (hN v'.1 : Int) ≤ hN vk.1 + cn') (b2 : hS vk.1 ≤ hS v'.1) (b3 : (hS v'.1 : Int) ≤ hS vk.1 + cs') (hc : cn' ≤ 20 * (S 48 0 - Sk 47 0) + 8) (hd : cs' ≤ 200 * (S 48 0 - Sk 47 0) + 80) (d : doom w (tWay w S U) q) : Q (Sum.inr (R 2)) h' := by
  obtain ⟨⟨a1, a2, a3, a4, a5⟩, _, _, _, _, _, ⟨L, l1, l2, l3⟩, rm⟩ := aw
  have le := a2.le
  have ts48 : Sk 48 0 = S 48 0 := by rw [a3.2.2.2.1 48 (by decide) (by decide) (by decide) (by decide) (by decide) (by decide) (by decide)]
  have k9 : hK vk.1 (R 9) = 4 := l3.1.choose_spec.1.1
  have cp : vCp v' (R 9) = vCp vk (R 9) := (f.cc (hK_lt k9 (by decide)) (fun y => by rcases y with y | y <;> omega)).2.2.1
  have il : (insA (insA [] L) (if mO U w n = -1 then [] else [(2, (p, -1))])).length ≤ 2601 := by
    rw [insA_len, insA_len]
    split <;> simp <;> omega
  have l32 := l3.2
  refine q2 h' v' q c' ((a1.mono (fun _ _ y => Xw_p y)).trans (f.mono (fun _ _ y => Xq_p y))) ((rm.trans (v2 := v') (n1 := cn') (s1 := cs') ⟨f.1, b1, b2, by rw [cp]; omega, by rw [cp]; exact Nat.le_refl _⟩).le (by omega) (by omega)) w6 (by rw [cp]; omega) (way_st tj px e50 d)
theorem wy_B1 (blc : BLC r R w p0) (hr : 9 ≤ r) (c : CR h vk) (tj : TJ R A T w p0 v S U) (px : PX w S U) (e50 : S 50 0 = wWay) (u9 : U 9 w ≠ 12) (aw : AW R w v S U vk Sk am nm n p n2 p2 0 cn cs) (z1 : n ≠ 0) (s51 : Sk 51 0 ≠ -2) (hcn : cn ≤ 20 * (Sk 47 0 - S 47 0) + 38) (hcs : cs ≤ 200 * (Sk 47 0 - S 47 0) + 500) (lt : S 47 0 < Sk 47 0) {b : Bool} (hn : b = true → n2 ≠ 0) (hb : b = false → n2 = 0)
    (tw : tWay w S U = tWay2 w (w * 12 + U 9 w) Sk (if b = true then up (up (wy0 (w * 12 + U 9 w) n p U) 12 (w * 12 + U 9 w) n2) 13 (w * 12 + U 9 w) p2 else wy0 (w * 12 + U 9 w) n p U)) (q1 : WY1 R T w p0 v S U Q) (q2 : WY2 R T w v S U Q) :
    Rn (r + 1) 84 124 [some (vR (some (R 0))), some (vR (some nm)), some (vR (some am)), l3] [] h Q := by
  have aw' := aw
  obtain ⟨⟨a1, a2, a3, a4, a5⟩, ⟨b0, k18, f1, f2, f3, f4, f5, f6, f8⟩, tn, r8, ls, mp, mlx, rm⟩ := aw'
  have si := a2.2.1
  have tk := a2.2.2.1
  have le := a2.le
  have ts48 : Sk 48 0 = S 48 0 := by rw [a3.2.2.2.1 48 (by decide) (by decide) (by decide) (by decide) (by decide) (by decide) (by decide)]
  have a47 := tAdv_47 si
  refine wy_free (w := w) (x := w * 12 + U 9 w) (U := if b = true then up (up (wy0 (w * 12 + U 9 w) n p U) 12 (w * 12 + U 9 w) n2) 13 (w * 12 + U 9 w) p2 else wy0 (w * 12 + U 9 w) n p U) c a2 a4 k18 (fun ne => ?_) (fun e z h1 v1 c1 F1 t1 i3 b1 b2 b3 => ?_) (fun h1 v1 q c1 wg d => ?_)
  · refine wy_B2 blc hr c tj px e50 u9 aw z1 s51 hcn hcs lt hn hb ?_ q1 q2
    rw [tw]
    unfold tWay2
    rw [if_neg ne]
  · have nar : am ≠ R 0 ∧ am ≠ R 2 := ⟨fun e => by rw [e, a2.w0.1] at k18; exact absurd k18 (by decide), fun e => by rw [e, a2.w0.2.1] at k18; exact absurd k18 (by decide)⟩
    have q := fun j (hj : j ≠ 3) => F1.ff (k := j) (hK_lt k18 (by decide)) (fun y => by
      rcases y with (y | y) | y
      · exact nar.1 y.1
      · exact nar.2 y.1
      · exact hj y.2)
    have aw1 : AW R w v S U v1 (tAdv Sk) am nm n p n2 p2 1 (cn + 20 * (tAdv Sk 47 0 - Sk 47 0)) (cs + 200 * (tAdv Sk 47 0 - Sk 47 0)) := by
      refine AW_mv tj aw F1 (fun a k y => ?_) t1 (Tks_adv si tk) (by rw [tAdv_52]; exact a4) a47.1 (by rw [i3]; rfl) (fun z => by rw [(q 4 (by decide)).2.2]; exact f4 z) (fun z => ?_) (by omega) b2 (by omega)
      · rcases y with y | y
        · exact Or.inl y
        · exact Or.inr ⟨y.1, Or.inl y.2⟩
      · rw [(q 4 (by decide)).2.2, (q 5 (by decide)).1]
        obtain ⟨⟨a, y1, y2, y3, y4⟩, y5⟩ := f5 z
        have tx : vTx v1 a = vTx vk a := (F1.cc (hK_lt y2 (by decide)) (fun y => by
          rcases y with (y | y) | y
          · omega
          · omega
          · omega)).2.2.2
        exact ⟨⟨a, y1, F1.kk y2 (by decide), by rw [tx]; exact y3, by rw [tx]; exact y4⟩, y5⟩
    refine wy_B2 blc hr c1 tj px e50 u9 aw1 z1 z (by omega) (by omega) (by omega) hn hb ?_ q1 q2
    rw [tw]
    unfold tWay2
    rw [if_pos e]
  · obtain ⟨g1, g2, g3, g4, g5⟩ := wg
    exact AW_bad (cn' := 0) (cs' := 0) tj px e50 aw hcn hcs q2 c1 g1 g2 (by omega) g4 (by omega) (by omega) (by omega) (by rw [tw]; exact d)
theorem c_way (blc : BLC r R w p0) (hr : 9 ≤ r) (c : CR h v) (ti : TI R A T w p0 v S U) (e50 : S 50 0 = wWay) (u9 : U 9 w ≠ 12) (q1 : WY1 R T w p0 v S U Q) (q2 : WY2 R T w v S U Q) : Cl (r + 1) 84 [vR (some (R 0))] h Q := by
  obtain ⟨g, rk, kl, mt, px⟩ := ti
  have tj : TJ R A T w p0 v S U := ⟨g, rk, kl, mt⟩
  have g' := g
  obtain ⟨g1, g2, g3, g4, g5, g6, ⟨g7, g8⟩, g9, ga, gb, gc, gd, ge, gf, gg⟩ := g'
  have px' := px
  obtain ⟨⟨hP, pr, qv, w0⟩, ⟨pl, pk⟩, ⟨s52, s49⟩, p5⟩ := px'
  have b9 := QV_b qv (f := 9) (c := 12) rfl rfl rfl w
  obtain ⟨⟨m1, m2, m3⟩, ⟨m4, m5, m6⟩, ⟨t4, t6, ne46, ne57⟩, m7⟩ := mt
  have k0 := g1.w0.1
  have k2 := g1.w0.2.1
  obtain ⟨L, l1, l2, ll3, l4⟩ := ML_len (R := R) g9 qv
  have k9 : hK v.1 (R 9) = 4 := l1.1.choose_spec.1.1
  have t9 : T (R 9) = 3 := g6.2.2.2.2.2.2.1.2.1
  have n69 : R 6 ≠ R 9 := fun e => by rw [e, t9] at t6; exact absurd t6 (by decide)
  have si := hP.1
  have tk := hP.2.1
  have le := g1.le
  have si1 := SI_adv si
  have tk1 := TK_adv si.1
  have a47 := tAdv_47 si
  have cpv := GT_cp g qv
  have nx : ∀ {a n k : Nat}, hK v.1 a = n → n ≠ 0 → n ≠ 2 → n ≠ 3 → ¬ Xq (R 0) (R 2) a k := fun {a n k} e h0 h2 h3 y => by
    rcases y with y | y
    · rw [y.1, k0] at e; omega
    · rw [y.1, k2] at e; omega
  refine wy_name (U := U) c g1 s52 u9 (fun n1 z1 h1 v1 nm c1 F1 t1 tn e14 b1 b2 b3 => ?_) (fun h1 v1 q c1 F1 w6 b1 b2 b3 d => ?_)
  · obtain ⟨f53, f54, f47, f49, f50, f51⟩ := tName_g n1
    obtain ⟨si2, tk2, x55, x56, x48, x52, x47⟩ := nm_name si1 tk1 n1
    have w49 : tAdv S 49 0 < tAdv S 47 0 := tk1.2.2.1 (fun y => (tIsN_iff.mp n1).1 (tk1.2.2.2 (by omega)))
    have v2000 := (SI_v si1).2.2
    have cp1 : vCp v1 (R 9) = vCp v (R 9) := (F1.cc (hK_lt k9 (by decide)) (nx k9 (by decide) (by decide) (by decide))).2.2.1
    have mp1 : vMp v1 (R 7) = vMp v (R 7) := (F1.cc (hK_lt m5.1 (by decide)) (nx m5.1 (by decide) (by decide) (by decide))).2.1
    have ls1 : vLs v1 (R 6) = vLs v (R 6) := (F1.cc (hK_lt m2 (by decide)) (nx m2 (by decide) (by decide) (by decide))).1
    have k01 := t1.w0.1
    have k31 := F1.kk g2.2.2.1 (by decide)
    have r3 := fun j => F1.ff (k := j) (hK_lt g2.2.2.1 (by decide)) (nx g2.2.2.1 (by decide) (by decide) (by decide))
    have zn : tAdv S 50 0 ≠ 0 := (tIsN_iff.mp n1).1
    have tne : vTx v1 nm ≠ [] := fun e => zn (by rw [← tn.2.1, e]; rfl)
    have mo : vMp v1 (R 7) (vTx v1 nm) = none ↔ mO U w (tAdv S 50 0) = -1 := by
      rw [mp1, m5.2 _ tn.2.2, tn.2.1]
      unfold optA
      by_cases e : mO U w (tAdv S 50 0) = -1
      · rw [if_pos e]; exact ⟨fun _ => e, fun _ => rfl⟩
      · rw [if_neg e]; exact ⟨(fun q => by cases q), fun q => absurd q e⟩
    have ln : (vLs v1 (R 6)).length = (U 9 w).toNat := by rw [ls1, m3, rowL_len]
    refine wy_new (x := tAdv S 50 0) (p := tAdv S 49 0) c1 k01 (by rw [(F1.ff (k := 7) (hK_lt k0 (by decide)) (fun y => by rcases y with y | y <;> omega)).2.2]; exact g2.2.1) k31 (by rw [(r3 2).2.2]; exact m1) (F1.kk m2 (by decide)) (by rw [(r3 3).2.2]; exact m4) (F1.kk m5.1 (by decide)) (by rw [(r3 5).2.2]; exact g2.2.2.2.2.2) (F1.kk k9 (by decide)) n69 (ML_fw F1 l1 (nx k9 (by decide) (by decide) (by decide)) (fun a k y _ e => nx e (by decide) (by decide) (by decide) y)) (by omega) tn e14 ⟨by omega, by omega⟩ (by rw [mp1]; exact KL_sm m6 (by omega)) (by omega) (fun h2 v2 c2 F2 r8 mc ls2 mp2 ml2 rm2 => ?_)
    have ly : ∀ {a n k : Nat}, hK v1.1 a = n → n ≠ 0 → n ≠ 2 → n ≠ 4 → n ≠ 6 → ¬ ((a = R 0 ∧ k = 8) ∨ ((a = R 6 ∨ a = R 7 ∨ a = R 9) ∧ k = 99)) := fun {a n k} e h0 h2 h4 h6 y => by
      rcases y with y | ⟨y | y | y, _⟩
      · rw [y.1, k01] at e; omega
      · rw [y, F1.kk m2 (by decide)] at e; omega
      · rw [y, F1.kk m5.1 (by decide)] at e; omega
      · rw [y, F1.kk k9 (by decide)] at e; omega
    have tx2 : vTx v2 nm = vTx v1 nm := (F2.cc (hK_lt tn.1 (by decide)) (ly tn.1 (by decide) (by decide) (by decide) (by decide))).2.2.2
    have pt2 : PT v2 (R 0) (R 1) (R 2) (tName (tAdv S)) := PT_fw F2 t1 (fun k hk y => by omega) (fun k => ly t1.w0.2.2 (by decide) (by decide) (by decide) (by decide)) (fun a y => by
      rcases y with y | ⟨y | y | y, _⟩
      · omega
      · rw [y, F1.kk m2 (by decide)]; exact ⟨by decide, by decide⟩
      · rw [y, F1.kk m5.1 (by decide)]; exact ⟨by decide, by decide⟩
      · rw [y, F1.kk k9 (by decide)]; exact ⟨by decide, by decide⟩)
    obtain ⟨mc1, ⟨mc2, mc3, mc4, mc5⟩, mc6, mc7, mc8, mc9⟩ := mc
    have e52 : tName (tAdv S) 52 0 = -1 := by rw [x52, tAdv_52]; exact s52
    have tks : Tks S (tName (tAdv S)) := (Tks_adv si tk).tr (Tks_name si1 tk1)
    have aw0 : AW R w v S U v2 (tName (tAdv S)) (hN v1.1) nm (tAdv S 50 0) (tAdv S 49 0) 0 0 0 (20 * (tName (tAdv S) 47 0 - S 47 0) + 34) (200 * (tName (tAdv S) 47 0 - S 47 0) + 460) := by
      refine ⟨⟨(F1.mono (fun _ _ y => Or.inl y)).trans (F2.mono (fun _ _ y => Or.inr y)), pt2, tks, e52, by omega⟩, ⟨F1.1, mc1, ?_, mc4, ?_, fun _ => mc6 4 (by decide) (by decide), fun z => absurd rfl z, mc6 6 (by decide) (by decide), mc6 8 (by decide) (by decide)⟩, ⟨F2.kk tn.1 (by decide), by rw [tx2]; exact tn.2.1, by rw [tx2]; exact tn.2.2⟩, r8, by rw [ls2, ls1], fun t => by rw [mp2 t, tx2, mp1], ⟨L, l2, ll3, ?_⟩, ?_⟩
      · rw [mc3, ln, show ((U 9 w).toNat : Int) = U 9 w by omega]
      · rw [mc7 3 (by decide) (by decide)]
        rfl
      · by_cases e : mO U w (tAdv S 50 0) = -1
        · rw [if_pos e]
          rw [if_pos (mo.mpr e)] at ml2
          exact ml2
        · rw [if_neg e]
          rw [if_neg (fun z => e (mo.mp z))] at ml2
          exact ml2
      · exact (RM.trans (v1 := v1) (n := 20 * (tName (tAdv S) 47 0 - S 47 0) + 4) (s := 200 * (tName (tAdv S) 47 0 - S 47 0) + 40) ⟨F1.1, by omega, by omega, by rw [cp1]; omega, by rw [cp1]; exact Nat.le_refl _⟩ rm2).le (by omega) (by omega)
    have ltS : S 47 0 < tName (tAdv S) 47 0 := by omega
    have tw0 : tWay w S U = tWay1 w (w * 12 + U 9 w) (tName (tAdv S)) (wy0 (w * 12 + U 9 w) (tAdv S 50 0) (tAdv S 49 0) U) := by
      unfold tWay wy0
      rw [if_neg u9, if_pos n1, f53, f54]
    have si3 := SI_adv si2
    have tk3 := TK_adv si2.1
    have c47 := tAdv_47 si2
    have x48' : tName (tAdv S) 48 0 = S 48 0 := by rw [x48, tAdv_55.2.2.1]
    refine wy_over (w := w) (x := w * 12 + U 9 w) (U := wy0 (w * 12 + U 9 w) (tAdv S 50 0) (tAdv S 49 0) U) c2 pt2 e52 mc1 (fun ne => ?_) (fun e n3 z3 h3 v3 nm3 c3 F3 t3 tn3 r43 i53 d1 d2 d3 => ?_) (fun h3 v3 q c3 F3 w6 d1 d2 d3 d => ?_)
    · refine wy_B1 (b := false) (p2 := 0) blc hr c2 tj px e50 u9 aw0 zn z1 (by omega) (by omega) ltS (fun z => by cases z) (fun _ => rfl) ?_ q1 q2
      rw [tw0]
      unfold tWay1
      rw [if_neg ne]
      rfl
    · obtain ⟨k53, k54, k47, k49, k50, k51⟩ := tName_g n3
      obtain ⟨si4, tk4, _, _, y48, y52, y47⟩ := nm_name si3 tk3 n3
      have nar : hN v1.1 ≠ R 0 ∧ hN v1.1 ≠ R 2 := ⟨fun e => by rw [e, pt2.w0.1] at mc1; exact absurd mc1 (by decide), fun e => by rw [e, pt2.w0.2.1] at mc1; exact absurd mc1 (by decide)⟩
      have q3 := F3.ff (k := 3) (hK_lt mc1 (by decide)) (fun y => by
        rcases y with (y | y) | y
        · exact nar.1 y.1
        · exact nar.2 y.1
        · omega)
      have zn3 : tAdv (tName (tAdv S)) 50 0 ≠ 0 := (tIsN_iff.mp n3).1
      have aw1 : AW R w v S U v3 (tName (tAdv (tName (tAdv S)))) (hN v1.1) nm (tAdv S 50 0) (tAdv S 49 0) (tAdv (tName (tAdv S)) 50 0) (tAdv (tName (tAdv S)) 49 0) 0 (20 * (tName (tAdv S) 47 0 - S 47 0) + 34 + (20 * (tName (tAdv (tName (tAdv S))) 47 0 - tName (tAdv S) 47 0) + 4)) (200 * (tName (tAdv S) 47 0 - S 47 0) + 460 + (200 * (tName (tAdv (tName (tAdv S))) 47 0 - tName (tAdv S) 47 0) + 40)) := by
        refine AW_mv tj aw0 F3 (fun a k y => ?_) t3 ((Tks_adv si2 tk2).tr (Tks_name si3 tk3)) (by rw [y52, tAdv_52]; exact e52) (by omega) ?_ (fun z => absurd z zn3) (fun _ => ⟨⟨nm3, r43, tn3⟩, i53⟩) (by omega) d2 (by omega)
        · rcases y with y | y
          · exact Or.inl y
          · exact Or.inr ⟨y.1, Or.inr y.2⟩
        · rw [q3.1, mc7 3 (by decide) (by decide)]
          rfl
      refine wy_B1 (b := true) blc hr c3 tj px e50 u9 aw1 zn z3 (by omega) (by omega) (by omega) (fun _ => zn3) (fun z => by cases z) ?_ q1 q2
      rw [tw0]
      unfold tWay1
      rw [if_pos e, if_pos n3, k53, k54]
      rfl
    · exact AW_bad (cn' := 20 * (tName (tAdv S) 48 0 - tName (tAdv S) 47 0) + 4) (cs' := 200 * (tName (tAdv S) 48 0 - tName (tAdv S) 47 0) + 40) tj px e50 aw0 (by omega) (by omega) q2 c3 F3 w6 (by omega) d2 (by omega) (by omega) (by omega) (by rw [tw0]; exact d)
  · have cp1 : vCp v1 (R 9) = vCp v (R 9) := (F1.cc (hK_lt k9 (by decide)) (nx k9 (by decide) (by decide) (by decide))).2.2.1
    exact q2 h1 v1 q c1 (F1.mono (fun _ _ y => Xq_p y)) ⟨F1.1, by omega, b2, by rw [cp1]; omega, by rw [cp1]; exact Nat.le_refl _⟩ w6 (by rw [cp1]; omega) (way_st tj px e50 d)
end CWZ
