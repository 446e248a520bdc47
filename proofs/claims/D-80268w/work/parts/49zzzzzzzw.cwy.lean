/-! COMPONENT, 102: a method is read (84), its throws and its end *-/
section CWY
variable {R : Nat → Nat} {A : Nat → Int → Nat} {T : Nat → Nat} {w p0 n p n2 p2 fr cn cs : Int} {h : am_H} {v vk : vT} {S Sk U V Z : tSt} {r am nm : Nat} {Q : am_O → am_H → Prop} {l3 : Option am_V} {N : List (Int × Int)}
theorem mNs_cg {W : tSt} (e : ∀ y a, kO W w y a = kO U w y a) : ∀ N : List (Int × Int), mNs W w N = mNs U w N := by
  intro N
  induction N with
  | nil => rfl
  | cons q N ih => rw [mNs, mNs, ih, e]
theorem nK_cg {W : tSt} (e : ∀ y a, kO W w y a = kO U w y a) : nK W w N = nK U w N := by
  funext i
  unfold nK
  rw [e]
theorem QV_mid (q1 : QV Z) (q : QV U) (e : ∀ f j, V f j = Z f j ∨ V f j = U f j ∨ (f = 18 ∧ V f j = -1)) : QV V := by
  intro f j
  rcases e f j with z | z | ⟨z1, z2⟩
  · rw [z]; exact q1 f j
  · rw [z]; exact q f j
  · rw [z2, z1]
    refine ⟨?_, by omega, fun _ => ?_⟩
    · unfold tLow; rw [if_neg (by decide)]; exact Int.le_refl _
    · unfold tCap; rw [if_neg (by decide), if_neg (by decide), if_neg (by decide), if_neg (by decide)]; omega
theorem PR_wr (wr : WRy (w * 12 + U 9 w) n p n2 p2 fr N U V) (pr : PR w U) (h9 : 0 ≤ U 9 w) : PR w (up V 9 w (U 9 w + 1)) := by
  have p1 : PR w V := by
    refine PR_E (PR_18 (s := w * 12 + U 9 w) pr) (fun g hg => ?_)
    by_cases z : g = 18
    · subst z
      funext j
      by_cases y : j = w * 12 + U 9 w
      · rw [y, up_s]; exact wr.2.2.2.1.2.2.2.2.2.2
      · rw [wr.2.1 18 j (by decide) y, up_eq, if_neg (fun q => y q.2)]
    · rw [up_n z]
      refine wr.1 g ?_
      unfold pqF at hg
      simp at hg
      omega
  have e9 : V 9 w = U 9 w := by rw [wr.1 9 (by decide)]
  have := PQ_9 (w := w) p1.1 (Or.inl (by rw [e9]; exact wr.2.2.2.1.2.2.2.2.2.2))
  rw [e9] at this
  refine ⟨this, ?_⟩
  simp only [up_eq, true_and, false_and, and_true, and_false, and_self, if_true, if_false, eq_self, Nat.reduceEqDiff, reduceIte]
  have := p1.2
  omega
theorem PI_wr (wr : WRy (w * 12 + U 9 w) n p n2 p2 fr N U V) (hP : PI w S U) (h9 : U 9 w < 12) : PI w S (up V 9 w (U 9 w + 1)) := by
  obtain ⟨h1, h2, h3, u1, u2, u3, u4, u5, u6, u7⟩ := hP
  have e : ∀ f, f ≠ 9 → f ≤ 8 ∨ 19 ≤ f → up V 9 w (U 9 w + 1) f = U f := fun f h0 hf => by rw [up_n h0, wr.1 f (by omega)]
  refine ⟨h1, h2, h3, ?_⟩
  unfold PU
  rw [e 3 (by decide) (by decide), e 19 (by decide) (by decide), e 40 (by decide) (by decide), e 46 (by decide) (by decide), e 41 (by decide) (by decide), e 42 (by decide) (by decide), e 33 (by decide) (by decide), e 30 (by decide) (by decide), up_s]
  exact ⟨u1, by omega, u3, ⟨u4.1, by omega⟩, u5, u6, u7⟩
/-- from the throws on -/
theorem wy_B2 (blc : BLC r R w p0) (hr : 9 ≤ r) (c : CR h vk) (tj : TJ R A T w p0 v S U) (px : PX w S U) (e50 : S 50 0 = wWay) (u9 : U 9 w ≠ 12) (aw : AW R w v S U vk Sk am nm n p n2 p2 fr cn cs) (z1 : n ≠ 0) (s51 : Sk 51 0 ≠ -2) (hcn : cn ≤ 20 * (Sk 47 0 - S 47 0) + 38) (hcs : cs ≤ 200 * (Sk 47 0 - S 47 0) + 500) (lt : S 47 0 < Sk 47 0) {b : Bool} (hn : b = true → n2 ≠ 0) (hb : b = false → n2 = 0)
    (tw : tWay w S U = tWay3 w (w * 12 + U 9 w) Sk (up (if b = true then up (up (wy0 (w * 12 + U 9 w) n p U) 12 (w * 12 + U 9 w) n2) 13 (w * 12 + U 9 w) p2 else wy0 (w * 12 + U 9 w) n p U) 14 (w * 12 + U 9 w) fr))
    (q1 : ∀ h' v' A' T' S' U', tGo w (tStep w S U) (S', U') → CR h' v' → TI R A' T' w p0 v' S' U' → Fw (Xp R T) v v' → RM (R 9) v v' (300 * (S' 47 0 - S 47 0)) (2000 * (S' 47 0 - S 47 0)) → (∀ a, a < hN v.1 → T' a = T a) → S' 51 0 ≠ -2 → S 47 0 ≤ S' 47 0 → S' 48 0 = S 48 0 → Q (Sum.inl none) h')
    (q2 : ∀ h' v' p, CR h' v' → Fw (Xp R T) v v' → RM (R 9) v v' (300 * (S 48 0 - S 47 0) + 1300) (2000 * (S 48 0 - S 47 0) + 17000) → hI v'.1 (R 2) 6 = iI p → vCp v' (R 9) ≤ 6000 → doom w (S, U) p → Q (Sum.inr (R 2)) h') :
    Rn (r + 1) 84 142 [some (vR (some (R 0))), some (vR (some nm)), some (vR (some am)), l3] [] h Q := by
  obtain ⟨⟨a1, a2, a3, a4, a5⟩, ⟨b0, k18, f1, f2, f3, f4, f5, f6, f8⟩, tn, r8, ls, mp, ⟨L, l1, l2, ml⟩, rm⟩ := aw
  have tj' := tj
  obtain ⟨g, rk, kl, mt⟩ := tj'
  have g' := g
  obtain ⟨g1, g2, g3, g4, g5, g6, ⟨g7, g8⟩, ⟨L0, g9, g9'⟩, ga, gb, gc, gd, ge, gf, gg⟩ := g'
  have px' := px
  obtain ⟨⟨hP, pr, qv, w0⟩, ⟨pl, pk⟩, ⟨s52, s49⟩, p5⟩ := px'
  have b9 := QV_b qv (f := 9) (c := 12) rfl rfl rfl w
  have k0 := g1.w0.1
  have k2 := g1.w0.2.1
  have k5 := g3.2.2.1
  have k9 : hK v.1 (R 9) = 4 := g9.1.choose_spec.1.1
  have k9k := a1.kk k9 (by decide)
  have t9 : T (R 9) = 3 := g6.2.2.2.2.2.2.1.2.1
  have tR6 := mt.2.2.1.2.1
  have nx5 : ∀ {a m k : Nat}, hK v.1 a = m → m ≠ 0 → m ≠ 2 → m ≠ 3 → m ≠ 4 → a ≠ R 7 → ¬ Xw R a k := fun {a m k} e h0 h2 h3 h4 h7 y => by
    rcases y with (y | y) | y | ⟨y | y | y, _⟩
    · rw [y.1, k0] at e; omega
    · rw [y.1, k2] at e; omega
    · rw [y.1, k0] at e; omega
    · rw [y, mt.1.2.1] at e; omega
    · exact h7 y
    · rw [y, k9] at e; omega
  have e37 : ∀ a, hK v.1 a = 5 ∨ a = R 5 → a ≠ R 7 := fun a ha e => by
    rcases ha with ha | ha
    · rw [e, mt.2.1.2.1.1] at ha; omega
    · exact mt.2.2.1.2.2.2 (by rw [← ha]; exact e)
  have run : RUn vk (R 0) (R 3) (R 5) (R 9) := RUn_fw a1 g2 (fun y => by
    rcases y with (y | y) | y | y
    · omega
    · omega
    · omega
    · omega) (fun k _ => nx5 g2.2.2.1 (by decide) (by decide) (by decide) (by decide) (e37 _ (Or.inl g2.2.2.1)))
  have si := hP.1
  have tk := hP.2.1
  have le0 := g1.le
  have ts48 : Sk 48 0 = S 48 0 := by rw [a3.2.2.2.1 48 (by decide) (by decide) (by decide) (by decide) (by decide) (by decide) (by decide)]
  have ts55 : Sk 55 0 = 0 := by rw [a3.2.2.2.1 55 (by decide) (by decide) (by decide) (by decide) (by decide) (by decide) (by decide)]; exact g8
  have lek := a2.le
  -- rows
  have WRm := fun (N : List (Int × Int)) (hN : N.length ≤ 4) => WR_mk (x := w * 12 + U 9 w) (n := n) (p := p) (n2 := n2) (p2 := p2) (fr := fr) (U := U) (b := b) hN hn hb
  have w15 : up (if b = true then up (up (wy0 (w * 12 + U 9 w) n p U) 12 (w * 12 + U 9 w) n2) 13 (w * 12 + U 9 w) p2 else wy0 (w * 12 + U 9 w) n p U) 14 (w * 12 + U 9 w) fr 15 (w * 12 + U 9 w) = 0 := (WRm [] (by decide)).2.2.2.1.2.2.2.2.2.1
  have wl := (WRm [] (by decide)).1
  have wl' : ∀ f, f ≤ 9 ∨ 19 ≤ f → up (if b = true then up (up (wy0 (w * 12 + U 9 w) n p U) 12 (w * 12 + U 9 w) n2) 13 (w * 12 + U 9 w) p2 else wy0 (w * 12 + U 9 w) n p U) 14 (w * 12 + U 9 w) fr f = U f := wl
  generalize hW : up (if b = true then up (up (wy0 (w * 12 + U 9 w) n p U) 12 (w * 12 + U 9 w) n2) 13 (w * 12 + U 9 w) p2 else wy0 (w * 12 + U 9 w) n p U) 14 (w * 12 + U 9 w) fr = W at *
  have koW : ∀ y a, kO W w y a = kO U w y a := fun y a => by unfold kO; rw [wl' 3 (by decide), wl' 4 (by decide), wl' 6 (by decide)]
  have km : KMp vk (R 5) (A 0) W w p0 := by
    obtain ⟨x1, x2, x3, x4⟩ := KMp_fw a1 g3 (nx5 k5 (by decide) (by decide) (by decide) (by decide) (e37 _ (Or.inr rfl)))
    exact ⟨fun t ok ne q hq => by rw [koW]; exact x1 t ok ne q hq, fun k h0 h1 => by rw [wl' 3 (by decide)] at h1; exact x2 k h0 h1, x3, by rw [wl' 3 (by decide)]; exact x4⟩
  have s51' : S 51 0 = 0 := Classical.byContradiction (fun z => by have := tk.2.2.2 z; rw [this] at e50; exact absurd e50 (by decide))
  have hm : tMore S = true := more_of s52 (Or.inr (by omega))
  have st : tStep w S U = tWay w S U := by unfold tStep; rw [if_pos g8, if_neg (by rw [e50]; decide), if_pos e50]
  have il : (insA (insA [] L) (if mO U w n = -1 then [] else [(2, (p, -1))])).length ≤ 2601 := by
    rw [insA_len, insA_len]
    split <;> simp <;> omega
  have dms : ∀ q, doom w (tWay w S U) q → doom w (S, U) q := fun q d => doom_step s52 (Or.inr (by omega)) (by rw [st]; exact d)
  have xw : ∀ a k, Xw R a k → Xp R T a k := fun a k y => by
    rcases y with (y | y) | y | ⟨y | y | y, z⟩
    · exact Or.inl (Or.inl ⟨y.1, by omega⟩)
    · exact Or.inl (Or.inr (Or.inl y))
    · exact Or.inl (Or.inl ⟨y.1, by omega⟩)
    · exact Or.inl (Or.inr (Or.inr ⟨z, 6, by decide, by decide, y⟩))
    · exact Or.inl (Or.inr (Or.inr ⟨z, 7, by decide, by decide, y⟩))
    · exact Or.inl (Or.inr (Or.inr ⟨z, 9, by decide, by decide, y⟩))
  have xmq : ∀ a k, Xm (R 0) (R 2) (R 9) a k → Xw R a k := fun a k y => by
    rcases y with y | y
    · exact Or.inl y
    · exact Or.inr (Or.inr ⟨Or.inr (Or.inr y.1), y.2⟩)
  refine wy_told (x := w * 12 + U 9 w) (U := W) (w := w) (A := A 0) (p0 := p0) c a2 a4 s51 run k9k ml (by omega) km (by omega) k18 w15 (fun N X h6 v6 cn6 cs6 hN4 tw4 x51 c6 F6 t6 tks x52 x47 x48 r76 nl6 ml6 rm6 hn6 hm6 => ?_) (fun h6 v6 q c6 fl d => ?_)
  · have wr := WRm N hN4
    generalize hV : nW 15 16 17 (w * 12 + U 9 w) N W = V at *
    have e9 : V 9 w = U 9 w := by rw [wr.1 9 (by decide)]
    have kam6 := F6.kk k18 (by decide)
    have nam : am ≠ R 9 ∧ am ≠ R 0 ∧ am ≠ R 2 := ⟨fun e => by rw [e, k9k] at k18; exact absurd k18 (by decide), fun e => by rw [e, a2.w0.1] at k18; exact absurd k18 (by decide), fun e => by rw [e, a2.w0.2.1] at k18; exact absurd k18 (by decide)⟩
    have q6 := fun j (hj : j ≠ 7) => F6.ff (k := j) (hK_lt k18 (by decide)) (fun y => by
      rcases y with ((y | y) | y) | y
      · exact nam.2.1 y.1
      · exact nam.2.2 y.1
      · exact nam.1 y.1
      · exact hj y.2)
    have n10 : ∀ {a m k : Nat}, hK vk.1 a = m → m ≠ 0 → m ≠ 2 → m ≠ 3 → m ≠ 18 → a ≠ R 9 → ¬ (Xm (R 0) (R 2) (R 9) a k ∨ (a = am ∧ k = 7)) := fun {a m k} e h0 h2 h3 h18 h9 y => by
      rcases y with ((y | y) | y) | y
      · rw [y.1, a2.w0.1] at e; omega
      · rw [y.1, a2.w0.2.1] at e; omega
      · exact h9 y.1
      · rw [y.1, k18] at e; omega
    have ne9 : ∀ {a m : Nat}, hK vk.1 a = m → m ≠ 4 → a ≠ R 9 := fun {a m} e h4 z => by rw [z, k9k] at e; omega
    have F : Fw (Xw R) v v6 := a1.tr2 F6 (fun a k y => by
      rcases y with y | y
      · exact Or.inr (xmq a k y)
      · exact Or.inl (by rw [y.1]; exact b0))
    have tx6 : vTx v6 nm = vTx vk nm := (F6.cc (hK_lt tn.1 (by decide)) (n10 tn.1 (by decide) (by decide) (by decide) (by decide) (ne9 tn.1 (by decide)))).2.2.2
    have tn6 : TN1 v6 nm n := ⟨F6.kk tn.1 (by decide), by rw [tx6]; exact tn.2.1, by rw [tx6]; exact tn.2.2⟩
    have k6k := a1.kk mt.1.2.1 (by decide)
    have k7k := a1.kk mt.2.1.2.1.1 (by decide)
    have n69 : R 6 ≠ R 9 := fun e => by rw [e, t9] at tR6; exact absurd tR6 (by decide)
    have ls6 : vLs v6 (R 6) = vLs v (R 6) ++ [some am] := by rw [(F6.cc (hK_lt k6k (by decide)) (n10 k6k (by decide) (by decide) (by decide) (by decide) n69)).1]; exact ls
    have mp6 : ∀ t, vMp v6 (R 7) t = if t = vTx v6 nm ∧ vMp v (R 7) t = none then some am else vMp v (R 7) t := fun t => by rw [(F6.cc (hK_lt k7k (by decide)) (n10 k7k (by decide) (by decide) (by decide) (by decide) (ne9 k7k (by decide)))).2.1, tx6]; exact mp t
    rw [mNs_cg koW] at ml6
    rw [nK_cg koW] at nl6
    have tX : Tks S X := a3.tr tks
    have X55 : X 55 0 = 0 := by rw [tX.2.2.2.1 55 (by decide) (by decide) (by decide) (by decide) (by decide) (by decide) (by decide)]; exact g8
    have tj6 := TJ_way (l := hN vk.1) tj px wr u9 hN4 F t6 X55 (by omega) b0 a1.1 tn6 z1 kam6 ⟨by rw [(q6 1 (by decide)).1]; exact f1, by rw [(q6 2 (by decide)).1]; exact f2, by rw [(q6 3 (by decide)).1]; exact f3, fun z => by rw [(q6 4 (by decide)).2.2]; exact f4 z, fun z => by
        rw [(q6 4 (by decide)).2.2, (q6 5 (by decide)).1]
        obtain ⟨⟨a, y1, y2, y3, y4⟩, y5⟩ := f5 z
        have tx : vTx v6 a = vTx vk a := (F6.cc (hK_lt y2 (by decide)) (n10 y2 (by decide) (by decide) (by decide) (by decide) (ne9 y2 (by decide)))).2.2.2
        exact ⟨⟨a, y1, F6.kk y2 (by decide), by rw [tx]; exact y3, by rw [tx]; exact y4⟩, y5⟩, by rw [(q6 6 (by decide)).2.2]; exact f6, r76, by rw [(q6 8 (by decide)).2.2]; exact f8⟩ nl6 ls6 mp6 ⟨L, l1, ml6⟩
    have hPX : PI w X U := PI_tks hP tX
    have hP6 := PI_wr wr hPX (by omega)
    have pr6 := PR_wr wr pr b9.1
    have u9' : up V 9 w (U 9 w + 1) 9 w = U 9 w + 1 := up_s
    have ex : w * 12 + (up V 9 w (U 9 w + 1) 9 w - 1) = w * 12 + U 9 w := by rw [u9']; omega
    have v18 : up V 9 w (U 9 w + 1) 18 (w * 12 + U 9 w) = -1 := by rw [up_n (by decide)]; exact wr.2.2.2.1.2.2.2.2.2.2
    have t4 : tWay4 w (w * 12 + U 9 w) X V = if X 51 0 = 59 then (tAdv X, up V 9 w (U 9 w + 1)) else tOpn w 0 (-1) (U 9 w + 1 - 1) 18 (w * 12 + U 9 w) X (up V 9 w (U 9 w + 1)) := by
      unfold tWay4
      rw [e9]
    have tst : tStep w S U = tWay4 w (w * 12 + U 9 w) X V := by rw [st, tw, tw4]
    have qvs := QV_step hP w0 qv
    have prs := PR_step hP w0.1 qv pr
    have pis := PI_step hP
    have qv6 : QV (up V 9 w (U 9 w + 1)) := by
      refine QV_mid qvs qv (fun f j => ?_)
      rw [tst, t4]
      by_cases e : X 51 0 = 59
      · rw [if_pos e]
        exact Or.inl rfl
      · rw [if_neg e]
        by_cases z : f = 18 ∧ j = w * 12 + U 9 w
        · rw [z.1, z.2]
          exact Or.inr (Or.inr ⟨rfl, v18⟩)
        · by_cases y : 40 ≤ f
          · exact Or.inr (Or.inl (by rw [up_n (by omega), wr.1 f (by omega)]))
          · refine Or.inl ?_
            show up V 9 w (U 9 w + 1) f j = up (tOU w 0 (-1) (U 9 w + 1 - 1) X (up V 9 w (U 9 w + 1))) 18 (w * 12 + U 9 w) (tOR w X (up V 9 w (U 9 w + 1))) f j
            rw [up_eq (f := 18), if_neg z, tOU_o (by omega)]
    refine wy_end (num := U 9 w + 1 - 1) (V := up V 9 w (U 9 w + 1)) blc hr c6 tj6 ⟨hP6, pr6, qv6, w0⟩ x52 x51 (by rw [u9']; omega) ?_ (by rw [u9', show U 9 w + 1 - 1 = U 9 w by omega, Aof_s]) (fun iso => ?_) (fun h7 v7 A7 T7 S7 U7 go c7 tj7 P7 e52 F7 rm7 ts7 e8 n51 x47' x48' => ?_) (fun h7 v7 q c7 F7 rm7 w6 cp d => ?_)
    · rw [(F6.ff (k := 8) (hK_lt a2.w0.1 (by decide)) (fun y => by
        rcases y with ((y | y) | y) | y
        · omega
        · omega
        · omega
        · omega)).2.2]
      exact r8
    · have ns : ¬ X 51 0 = 59 := fun z => by
        unfold tIsO at iso
        rw [z] at iso
        simp at iso
      rw [ex]
      have y := And.intro pis (And.intro prs qvs)
      rw [tst, t4, if_neg ns, tOpn_e iso] at y
      exact y
    · rw [ex, ← t4, ← tst] at go
      have goS : tGo w (S, U) (S7, U7) := tGo_trans (tGo_one hm) go
      have T7e : ∀ a, a < hN v.1 → T7 a = T a := fun a ha => by
        rw [ts7 a (by have := F.1; omega)]
        exact Tst_o (by have := a1.1; omega)
      refine q1 h7 v7 A7 T7 S7 U7 go c7 ?_ ?_ ?_ T7e n51 (by omega) (by omega)
      · obtain ⟨d1, d2, d3, d4⟩ := tj7
        refine ⟨d1, d2, d3, d4, ⟨P7.1, P7.2.1, P7.2.2, w0⟩, ⟨PL_go goS w0 hP qv pr pl e52, PK_go goS hP pk e52⟩, ⟨e52, P7.1.2.1.1⟩, fun k k0 k1 => ?_⟩
        have n3 := g3.2.2.2
        rw [e8 3 w (by decide) (by omega), up_n (by decide), wr.1 3 (by decide)] at k1
        rw [e8 5 _ (by decide) (by omega), up_n (by decide), wr.1 5 (by decide)]
        have m := p5 k k0 k1
        have lt2 := tGo_lt (w := w) (X := (S, U)) (Y := (S7, U7)) go hP hm e52
        have lt3 : S 49 0 < S7 49 0 := lt2
        omega
      · refine F.mono xw |>.tr2 F7 (fun a k y => ?_)
        by_cases l : a < hN v.1
        · right
          rcases y with y | y
          · rcases y with y | y | y
            · exact Or.inl y
            · rw [Tst_o (by have := a1.1; omega)] at y
              exact Or.inr (Or.inl y)
            · rw [Tst_o (by have := a1.1; omega)] at y
              exact Or.inr (Or.inr y)
          · rw [y.1] at l
            omega
        · left
          omega
      · exact ((rm.trans rm6).trans rm7).le (by omega) (by omega)
    · rw [ex, ← t4, ← tst] at d
      refine q2 h7 v7 q c7 ?_ (((rm.trans rm6).trans rm7).le (by omega) (by omega)) w6 cp (doom_go (tGo_one hm) d)
      refine F.mono xw |>.tr2 F7 (fun a k y => ?_)
      by_cases l : a < hN v.1
      · right
        rcases y with y | y | y
        · exact Or.inl y
        · rw [Tst_o (by have := a1.1; omega)] at y
          exact Or.inr (Or.inl y)
        · rw [Tst_o (by have := a1.1; omega)] at y
          exact Or.inr (Or.inr y)
      · left
        omega
  · obtain ⟨y1, y2, y3, L', y4, y5⟩ := fl
    have := y4.2
    refine q2 h6 v6 q c6 ?_ ((rm.trans y3).le (by omega) (by omega)) y2 (by omega) (dms q (by rw [tw]; exact d))
    exact (a1.mono xw).trans (y1.mono (fun a k z => xw a k (xmq a k z)))
end CWY
