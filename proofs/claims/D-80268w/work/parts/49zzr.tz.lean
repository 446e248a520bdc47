/-! JDK: maps, 11: treeify *-/
section TZL
variable {h : am_H} {v : vT} {r t ix : Nat} {Q : am_O → am_H → Prop} {A : Nat → Prop}
theorem TCh.mono {A B : Nat → Prop} {h h' : am_H} (m : ∀ x, A x → B x) (c : TCh A h h') : TCh B h h' := by
  obtain ⟨c1, c2, c3, c4, c5⟩ := c
  exact ⟨c1, c2, c3, fun b k q => c4 b k (fun w => q ⟨m b w.1, w.2⟩), fun b k q => c5 b k (fun w => q ⟨m b w.1, w.2⟩)⟩
/-- of a tree's nodes number and links are what they were -/
theorem TCh.key {g : am_H} (c : TCh A h g) (x : Nat) : hI g x 0 = hI h x 0 ∧ hR g x 1 = hR h x 1 ∧ hR g x 3 = hR h x 3 ∧ ndN g v x = ndN h v x ∧ ndT g v x = ndT h v x := by
  have e0 := c.2.2.2.1 x 0 (fun w => absurd w.2 (by decide))
  have e1 := c.2.2.2.2 x 1 (fun w => absurd w.2 (by decide))
  refine ⟨e0, e1, c.2.2.2.2 x 3 (fun w => absurd w.2 (by decide)), ndN_eq2 e0 e1, ?_⟩
  unfold ndT
  rw [e1]
def rootC (g : am_H) (v : vT) (D : Nat → Prop) (root : Option Nat) : Prop := (root = none ∧ ∀ x, ¬ D x) ∨ ∃ rt lo hi, root = some rt ∧ isTr g v D rt lo hi ∧ lo rt < -(2 ^ 100) ∧ 2 ^ 100 < hi rt
theorem ty_run (tk : hK h t = 48) (ty : tyN h v A) {l0 : Option am_V} {ps : List Nat}
    (K : ∀ g rt lo hi l4 l5 l6 l7 l8 l9 l10 l11 l12, TCh A h g → isTr g v (fun x => x ∈ ps) rt lo hi → lo rt < -(2 ^ 100) → 2 ^ 100 < hi rt → Rn r 263 215 [l0, some (vR (some t)), some (vR (some rt)), some (vR none), l4, l5, l6, l7, l8, l9, l10, l11, l12] [] g Q) :
    ∀ (rs : List Nat) (g : am_H) (D : Nat → Prop) (o root : Option Nat), TCh A h g → chn h o rs → (∀ x, x ∈ rs → A x ∧ ¬ D x) → rs.Nodup → (∀ x, D x → A x) → rootC g v D root → (∀ x, x ∈ ps ↔ (D x ∨ x ∈ rs)) → ps ≠ [] → ∀ l4 l5 l6 l7 l8 l9 l10 l11 l12,
      Rn r 263 4 [l0, some (vR (some t)), some (vR root), some (vR o), l4, l5, l6, l7, l8, l9, l10, l11, l12] [] g Q := by
  obtain ⟨y1, y2, y3, y4⟩ := ty
  intro rs
  induction rs with
  | nil =>
    intro g D o root tc ch mem nod DA rc eqv pn l4 l5 l6 l7 l8 l9 l10 l11 l12
    have e : o = none := ch
    subst e
    rw [sJ21_treeify_4, sJ21_treeify_5, if_pos rfl]
    rcases rc with ⟨e1, e2⟩ | ⟨rt, lo, hi, e1, tr, w1, w2⟩
    · exfalso
      apply pn
      apply List.eq_nil_iff_forall_not_mem.mpr
      intro x hx
      rcases (eqv x).mp hx with w | w
      · exact e2 x w
      · cases w
    · rw [e1]
      have pd : (fun x => x ∈ ps) = D := by
        funext x
        apply propext
        rw [eqv x]
        exact ⟨fun w => w.resolve_right (List.not_mem_nil), Or.inl⟩
      exact K g rt lo hi _ _ _ _ _ _ _ _ _ tc (by rw [pd]; exact tr) w1 w2
  | cons x l ih =>
    intro g D o root tc ch mem nod DA rc eqv pn l4 l5 l6 l7 l8 l9 l10 l11 l12
    have e : o = some x := ch.1
    subst e
    obtain ⟨ax, ndx⟩ := mem x (List.mem_cons_self ..)
    have kg : ∀ y, hK g y = hK h y := fun y => tc.kk
    have kx : hK g x = 13 := by rw [kg]; exact (y1 x ax).2
    have nx3 : hR g x 3 = hR h x 3 := (tc.key (v := v) x).2.2.1
    have cast : Rn r 263 12 [l0, some (vR (some t)), some (vR root), some (vR (some x)), l4, l5, l6, l7, l8, l9, l10, l11, l12] [vR (hR h x 3)] g Q ↔ Rn r 263 15 [l0, some (vR (some t)), some (vR root), some (vR (some x)), l4, l5, l6, l7, l8, l9, l10, l11, l12] [vR (hR h x 3)] g Q := by
      cases hl : hR h x 3 with
      | none => rw [sJ21_treeify_12_n]
      | some y =>
        have ay := y4 x y ax (Or.inl hl)
        rw [sJ21_treeify_12 (by rw [kg, (y1 y ay).2]; decide)]
    rw [sJ21_treeify_4, sJ21_treeify_5, if_neg (by simp), sJ21_treeify_8, sJ21_treeify_9 kx, nx3, cast, sJ21_treeify_15, sJ21_treeify_17, sJ21_treeify_18, sJ21_treeify_19, sJ21_treeify_20, sJ21_treeify_21 kx, sJ21_treeify_24 (by exact kx), sJ21_treeify_27, sJ21_treeify_28]
    have tc1 : TCh A h (putR (putR g x 6 none) x 5 none) := tc.trans ((TCh.pR ax (by decide)).trans (TCh.pR ax (by decide)))
    have q5 : hR (putR (putR g x 6 none) x 5 none) x 5 = none := by rw [hR_putR, if_pos ⟨rfl, rfl⟩]
    have q6 : hR (putR (putR g x 6 none) x 5 none) x 6 = none := by rw [hR_putR, if_neg (fun w => absurd w.2 (by decide)), hR_putR, if_pos ⟨rfl, rfl⟩]
    have other : ∀ y k, y ≠ x → hR (putR (putR g x 6 none) x 5 none) y k = hR g y k := fun y k q => by rw [hR_putR, if_neg (am_ne q), hR_putR, if_neg (am_ne q)]
    have nod' := List.nodup_cons.mp nod
    have mem' : ∀ y, y ∈ l → A y ∧ ¬ (D y ∨ y = x) := fun y hy => by
      have := mem y (List.mem_cons_of_mem _ hy)
      refine ⟨this.1, fun w => ?_⟩
      rcases w with w | w
      · exact this.2 w
      · rw [w] at hy; exact nod'.1 hy
    have DA' : ∀ y, (D y ∨ y = x) → A y := fun y w => by
      rcases w with w | w
      · exact DA y w
      · rw [w]; exact ax
    have eqv' : ∀ y, y ∈ ps ↔ ((D y ∨ y = x) ∨ y ∈ l) := fun y => by
      rw [eqv y, List.mem_cons]
      constructor
      · rintro (w | w | w)
        · exact Or.inl (Or.inl w)
        · exact Or.inl (Or.inr w)
        · exact Or.inr w
      · rintro ((w | w) | w)
        · exact Or.inl w
        · exact Or.inr (Or.inl w)
        · exact Or.inr (Or.inr w)
    have kr := keyN_rng (hI h x 0) (ndT h v x)
    rcases rc with ⟨e1, e2⟩ | ⟨rt, lo, hi, e1, tr, w1, w2⟩
    · rw [e1, if_neg (fun w => w rfl), sJ21_treeify_31, sJ21_treeify_32, sJ21_treeify_33 (by exact kx), sJ21_treeify_36, sJ21_treeify_37, sJ21_treeify_38 (by exact kx) rfl, sJ21_treeify_41, sJ21_treeify_42, sJ21_treeify_43, sJ21_treeify_209, sJ21_treeify_211, sJ21_treeify_212]
      have tc2 : TCh A h (putI (putR (putR (putR g x 6 none) x 5 none) x 4 none) x 8 0) := tc1.trans ((TCh.pR ax (by decide)).trans (TCh.pI ax))
      refine ih _ (fun y => D y ∨ y = x) _ _ tc2 ch.2 mem' nod'.2 DA' ?_ eqv' pn _ _ _ _ _ _ _ _ _
      refine Or.inr ⟨x, fun _ => -(2 ^ 100) - 1, fun _ => 2 ^ 100 + 1, rfl, ?_, by show (-(2 ^ 100) - 1 : Int) < -(2 ^ 100); omega, by show (2 ^ 100 : Int) < 2 ^ 100 + 1; omega⟩
      have pd : (fun y => D y ∨ y = x) = fun y => y = x := by
        funext y
        exact propext ⟨fun w => w.resolve_left (e2 y), Or.inr⟩
      rw [pd]
      refine isTr_of (tR.one (by simp only [hR_putI]; rw [hR_putR, if_pos ⟨rfl, rfl⟩]) (by simp only [hR_putI]; rw [hR_putR, if_neg (fun w => absurd w.2 (by decide))]; exact q5) (by simp only [hR_putI]; rw [hR_putR, if_neg (fun w => absurd w.2 (by decide))]; exact q6) ?_ ?_) ?_
      · rw [(tc2.key x).2.2.2.1]
        unfold ndN
        omega
      · rw [(tc2.key x).2.2.2.1]
        unfold ndN
        omega
      · rintro y rfl
        exact kx
    · obtain ⟨f1, f2, f3, k, kb, f4, f5, f6, f7⟩ := (ndF_b (ix := 0) (BCh.ofT tc1) (y1 x ax).1 (fun y hy => Or.inl (y1 y hy).2) tk).1
      have tx := (tc1.key (v := v) x).2.2.2.2
      have ix := (tc1.key (v := v) x).1
      have kx1 : hK (putR (putR g x 6 none) x 5 none) x = 13 := kx
      have ne : ∀ y, D y → y ≠ x := fun y hy e => ndx (by rw [← e]; exact hy)
      have tr1 : isTr (putR (putR g x 6 none) x 5 none) v D rt lo hi := by
        refine isTr_of (tR_congr (fun y hy => ⟨?_, other y 4 (ne y hy), other y 5 (ne y hy), other y 6 (ne y hy)⟩) tr.tr) (fun y hy => (tr.2.2.2.1 y hy).1)
        exact ndN_eq2 rfl (other y 1 (ne y hy))
      have nd1 : ∀ y, D y → ndF (putR (putR g x 6 none) x 5 none) v y := fun y hy => (ndF_b (ix := 0) (BCh.ofT tc1) (y1 y (DA y hy)).1 (fun y hy => Or.inl (y1 y hy).2) tk).1
      have ku1 : hE (putR (putR g x 6 none) x 5 none) 33 = hE (putR (putR g x 6 none) x 5 none) 33 := rfl
      have hxx : hI (putR (putR g x 6 none) x 5 none) x 0 = sprd (hashS (ndT (putR (putR g x 6 none) x 5 none) v x)) := f3
      rw [e1, if_pos (by simp), sJ21_treeify_46, sJ21_treeify_47 kx1, f4, sJ21_treeify_50, sJ21_treeify_52, sJ21_treeify_53 kx1, hxx, sJ21_treeify_56, sJ21_treeify_58, sJ21_treeify_59, sJ21_treeify_61, sJ21_treeify_62]
      have kr2 := keyN_rng (sprd (hashS (ndT (putR (putR g x 6 none) x 5 none) v x))) (ndT (putR (putR g x 6 none) x 5 none) v x)
      refine ty_loop tr1 nd1 f5 f6 (fun y hy e => ?_) ku1 (fun w => f7 w) (fun xp dv kc l10' l11' bxp go => ?_) _ rt tr.1 (Nat.le_refl _) (by omega) (by omega) _ _ _ _ _ (Or.inl rfl)
      · rw [(tc1.key y).2.2.2.2, tx] at e
        exact ne y hy (y2 y x (DA y hy) ax e)
      · have kxp : hK (putR (putR g x 6 none) x 5 none) xp = 13 := (tr1.2.2.2.1 xp bxp).1
        have nxp := ne xp bxp
        have KN : ndN (putR (putR g x 6 none) x 5 none) v x = keyN (sprd (hashS (ndT (putR (putR g x 6 none) x 5 none) v x))) (ndT (putR (putR g x 6 none) x 5 none) v x) := by
          unfold ndN
          rw [hxx]
        rw [sJ21_treeify_171, sJ21_treeify_172, sJ21_treeify_174 kx1, sJ21_treeify_177, sJ21_treeify_179]
        have fin : ∀ (g2 : am_H) (lo2 hi2 : Nat → Int) (l5 l6 l7 l8 l9 l10 l11 l12 : Option am_V), TCh A h g2 → trH g2 (ndN (putR (putR g x 6 none) x 5 none) v) (fun y => D y ∨ y = x) rt lo2 hi2 → lo2 rt = lo rt → hi2 rt = hi rt →
            Rn r 263 197 [l0, some (vR (some t)), some (vR (some rt)), some (vR (some x)), some (vR (hR h x 3)), l5, l6, l7, l8, l9, l10, l11, l12] [] g2 Q := by
          intro g2 lo2 hi2 l5 l6 l7 l8 l9 l10 l11 l12 tc2 tr2 eq1 eq2
          rw [sJ21_treeify_197, sJ21_treeify_198, sJ21_treeify_199]
          refine v_balance tr2 (fun y hy => by rw [tc2.kk]; exact (y1 y (DA' y hy)).2) (Or.inr rfl) (fun g3 rt3 lo3 hi3 tc3 tr3 e3 e4 => ?_)
          have tc4 := tc2.trans (tc3.mono DA')
          rw [Kt_v, sJ21_treeify_202, sJ21_treeify_203, sJ21_treeify_209, sJ21_treeify_211, sJ21_treeify_212]
          refine ih g3 (fun y => D y ∨ y = x) _ _ tc4 ch.2 mem' nod'.2 DA' (Or.inr ⟨rt3, lo3, hi3, rfl, ?_, by omega, by omega⟩) eqv' pn _ _ _ _ _ _ _ _ _
          refine isTr_of (tR_congr (fun y hy => ⟨?_, rfl, rfl, rfl⟩) tr3) (fun y hy => by rw [tc4.kk]; exact (y1 y (DA' y hy)).2)
          rw [(tc4.key y).2.2.2.1, (tc1.key y).2.2.2.1]
        have rx : rt ≠ x := ne rt tr.1
        rcases go with ⟨g0, g5, gl, gk⟩ | ⟨g0, g6, gl, gk⟩
        · rw [if_neg (Int32.not_lt.mpr g0), sJ21_treeify_182, sJ21_treeify_184, sJ21_treeify_185 (by exact kxp), sJ21_treeify_188]
          have lf := tR.leafL tr1.tr (n := x) bxp ndx g5 (by rw [KN]; exact gl) (by rw [KN]; exact gk) q5 q6 (by rw [KN]; exact ⟨by omega, by omega⟩)
          refine fin _ (fu lo x (lo xp)) (fu hi x (ndN (putR (putR g x 6 none) x 5 none) v xp)) _ _ _ _ _ _ _ _ (tc1.trans ((TCh.pR ax (by decide)).trans (TCh.pR (DA xp bxp) (by decide)))) ?_ ?_ ?_
          · unfold trH
            simp (disch := decide) only [fuR_eq, fuR_ne] at lf ⊢
            exact lf
          · unfold fu; rw [if_neg rx]
          · unfold fu; rw [if_neg rx]
        · rw [if_pos g0, sJ21_treeify_191, sJ21_treeify_193, sJ21_treeify_194 (by exact kxp)]
          have lf := tR.leafR tr1.tr (n := x) bxp ndx g6 (by rw [KN]; exact gl) (by rw [KN]; exact gk) q5 q6 (by rw [KN]; exact ⟨by omega, by omega⟩)
          refine fin _ (fu lo x (ndN (putR (putR g x 6 none) x 5 none) v xp)) (fu hi x (hi xp)) _ _ _ _ _ _ _ _ (tc1.trans ((TCh.pR ax (by decide)).trans (TCh.pR (DA xp bxp) (by decide)))) ?_ ?_ ?_
          · unfold trH
            simp (disch := decide) only [fuR_eq, fuR_ne] at lf ⊢
            exact lf
          · unfold fu; rw [if_neg rx]
          · unfold fu; rw [if_neg rx]
/-- a list of tree nodes becomes a tree; its root comes first -/
theorem v_treeify {p : Nat} {ps : List Nat} (tk : hK h t = 48) (tl : hL h t = 64) (ty : tyN h v (fun x => x ∈ ps)) (ch : chn h (some p) ps) (nod : ps.Nodup) (l2 : 2 ≤ ps.length) (bx : ∀ x, x ∈ ps → bIx 64 (hI h x 0) = ix) (f : hR h t ix = some p)
    (post : ∀ h' rt lo hi, BCh (fun x => x ∈ ps) t ix h h' → hN h' = hN h → hS h' = hS h → isTr h' v (fun x => x ∈ ps) rt lo hi → isNb h' (fun x => x ∈ ps) → hR h' t ix = some rt → hR h' rt 3 ≠ none → lo rt < -(2 ^ 100) → 2 ^ 100 < hi rt → Q (Sum.inl none) h') :
    Cl r 263 [vR (some p), vR (some t)] h Q := by
  obtain ⟨p2, l, rfl⟩ : ∃ p2 l, ps = p :: p2 :: l := by
    match ps, ch, l2 with
    | [x], _, l2 => simp at l2
    | x :: y :: l, ch, _ => exact ⟨y, l, by rw [Option.some.inj ch.1]⟩
  rw [eJ21_treeify, sJ21_treeify_0, sJ21_treeify_1, sJ21_treeify_2, sJ21_treeify_3]
  refine ty_run tk ty (fun g rt lo hi l4 l5 l6 l7 l8 l9 l10 l11 l12 tc tr w1 w2 => ?_) (p :: p2 :: l) h (fun _ => False) _ _ TCh.refl ch (fun x hx => ⟨hx, fun w => w⟩) nod (fun x w => w.elim) (Or.inl ⟨rfl, fun x w => w⟩) (fun x => ⟨Or.inr, fun w => w.resolve_left (fun w => w)⟩) (by simp) _ _ _ _ _ _ _ _ _
  rw [sJ21_treeify_215, sJ21_treeify_216, sJ21_treeify_217]
  have ne : ∀ y, y ∈ p :: p2 :: l → y ≠ t := fun y hy e => by
    have := (ty.1 y hy).2
    rw [e, tk] at this
    omega
  have ft : hR g t ix = some p := by
    rw [tc.2.2.2.2 t ix (fun w => ne t w.1 rfl)]
    exact f
  have nb : isNb g (fun x => x ∈ p :: p2 :: l) := by
    intro x y hx q
    rw [tc.2.2.2.2 x 3 (fun w => by omega), tc.2.2.2.2 x 7 (fun w => by omega)] at q
    exact ty.2.2.2 x y hx q
  refine v_move (fs := p) (B := fun x => x ∈ p :: p2 :: l) (by rw [tc.kk]; exact tk) (by unfold hL; rw [tc.2.1]; exact tl) (by rw [(tc.key (v := v) rt).1]; exact bx rt tr.1) ft (List.mem_cons_self ..) tr.1 (fun x hx => by rw [tc.kk]; exact (ty.1 x hx).2) nb (fun g4 mc ft4 nb4 m1 m2 => ?_)
  rw [Kt_0, sJ21_treeify_220]
  have k4 : ∀ y, hK g4 y = hK h y := fun y => by
    have : hK g4 y = hK g y := by unfold hK; rw [mc.1, mc.2.1]
    rw [this, tc.kk]
  refine post g4 rt lo hi ((BCh.ofT tc).trans (BCh.ofM mc)) (by unfold hN; rw [mc.1, tc.1]) (by unfold hS; rw [mc.1, tc.1]) ?_ nb4 ft4 ?_ w1 w2
  · refine isTr_of (tR_congr (fun x hx => ⟨?_, ?_, ?_, ?_⟩) tr.tr) (fun x hx => by rw [k4]; exact (ty.1 x hx).2)
    · exact ndN_eq2 (mc.2.2.2.1 x 0) (mc.2.2.2.2 x 1 (fun w => ne x hx w.1) (fun w => by omega))
    · exact mc.2.2.2.2 x 4 (fun w => ne x hx w.1) (fun w => by omega)
    · exact mc.2.2.2.2 x 5 (fun w => ne x hx w.1) (fun w => by omega)
    · exact mc.2.2.2.2 x 6 (fun w => ne x hx w.1) (fun w => by omega)
  · by_cases e : rt = p
    · rw [m2 e, e, tc.2.2.2.2 p 3 (fun w => by omega), show hR h p 3 = some p2 from ch.2.1]
      simp
    · rw [m1 e]
      simp
end TZL
