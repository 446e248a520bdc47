/-! COMPONENT, 13: known, look *-/
section KNS
variable {r rd u mk lx a : Nat} {h : am_H} {v v' : vT} {L : List tMi} {p x : Int} {Q : am_O → am_H → Prop}
/-- the reader's unit, with its kinds by name and its mistakes -/
def RUn (v : vT) (rd u mk lx : Nat) : Prop := hK v.1 rd = 2 ∧ hR v.1 rd 7 = some u ∧ hK v.1 u = 5 ∧ hR v.1 u 1 = some mk ∧ hK v.1 mk = 6 ∧ hR v.1 u 5 = some lx
theorem c_known (c : CR h v) (y : RUn v rd u mk lx) (m : MiL v lx L) (hl : L.length ≤ 15000) (ka : hK v.1 a = 10) (t8 : (vTx v a).length ≤ 8) (hp : -1 ≤ p ∧ p < 100000) (kd : ∀ z, vMp v mk (vTx v a) = some z → hK v.1 z = 7)
    (q1 : ∀ h' z, CR h' v → vMp v mk (vTx v a) = some z → Q (Sum.inl (some (vR (some z)))) h')
    (q2 : ∀ h' v', CR h' v' → vMp v mk (vTx v a) = none → Fw (fun b k => b = lx ∧ k = 99) v v' → MiA v v' lx L [(1, (p, -1))] → Q (Sum.inl (some (vR none))) h') : Cl (r + 1) 129 [vR (some rd), vR (some a), vI (iI p)] h Q := by
  obtain ⟨y1, y2, y3, y4, y5, y6⟩ := y
  have k1 := c.kk y1 (by decide)
  have k3 := c.kk y3 (by decide)
  rw [eX1_known, sX1_known_0, sX1_known_1 k1, c.rr y1 rfl, y2, sX1_known_4 k3, c.rr y3 rfl, y4, sX1_known_7, sX1_known_8 (c.kk y5 (by decide))]
  refine v_mget c y5 (Or.inl ka) t8 (fun h' c' => ?_)
  have k1 := c'.kk y1 (by decide)
  have k3 := c'.kk y3 (by decide)
  cases e : vMp v mk (vTx v a) with
  | none =>
    rw [Kt_v, sX1_known_11_n, sX1_known_14, sX1_known_15, sX1_known_16, if_neg (fun z => z rfl), sX1_known_19, sX1_known_20 k1, c'.rr y1 rfl, y2, sX1_known_23, sX1_known_24, sX1_known_25, sX1_known_26 k3, i_m1, i_1]
    refine c_mi1 c' y3 y6 m hl (by omega) (by omega) (by omega) (fun h2 v2 c2 f2 m2 => ?_)
    rw [Kt_0, sX1_known_29, sX1_known_30]
    exact q2 h2 v2 c2 e f2 m2
  | some z =>
    rw [Kt_v, sX1_known_11 (by rw [c'.kk (kd z e) (by decide)]; decide), sX1_known_14, sX1_known_15, sX1_known_16, if_pos (by simp), sX1_known_29, sX1_known_30]
    exact q1 h' z c' e
end KNS
/-! what stands around -/
def AO (v : vT) (a : Nat) (ou lp pa : Option Nat) (lam : Bool) (hd : Option Nat) : Prop :=
  hK v.1 a = 20 ∧ hR v.1 a 0 = ou ∧ hR v.1 a 1 = lp ∧ hR v.1 a 2 = pa ∧ hI v.1 a 3 = bI (lam = true) ∧ hR v.1 a 4 = hd
/-- a catch and its parameter's name -/
def CN (v : vT) (A : Nat → Int → Nat) (U : tSt) (c : Int) : Prop := hK v.1 (A 4 c) = 22 ∧ ∃ nm, hR v.1 (A 4 c) 2 = some nm ∧ hK v.1 nm = 10 ∧ wN (vTx v nm) = U 35 c ∧ okK (vTx v nm)
def AR (v : vT) (A : Nat → Int → Nat) (U : tSt) : Nat → Int → Option Nat → Prop
  | 0, _, _ => False
  | d + 1, b, o =>
    0 ≤ b ∧ ((U 41 b = 0 ∧ U 42 b = -1 ∧ ∃ a, o = some a ∧ AO v a none none none false none) ∨
    ((U 41 b = 2 ∨ U 41 b = 3 ∨ U 41 b = 9) ∧ U 42 b ≠ -1 ∧ AR v A U d (U 22 (U 42 b)) o) ∨
    (U 41 b = 4 ∧ U 42 b ≠ -1 ∧ ∃ a o', o = some a ∧ AO v a o' (some (A 2 (U 42 b))) none false none ∧ AR v A U d (U 22 (U 42 b)) o') ∨
    ((U 41 b = 1 ∨ U 41 b = 8) ∧ U 42 b ≠ -1 ∧ ∃ a o', o = some a ∧ AO v a o' none none true none ∧ AR v A U d (U 22 (U 42 b)) o') ∨
    (U 41 b = 5 ∧ U 42 b ≠ -1 ∧ ∃ a o', o = some a ∧ AO v a o' none none false (some (A 2 (U 42 b))) ∧ AR v A U d (U 22 (U 42 b)) o') ∨
    (U 41 b = 6 ∧ U 42 b ≠ -1 ∧ ∃ a a2 o', o = some a ∧ AO v a (some a2) none (some (A 4 (4 * U 42 b + U 43 b))) false none ∧ AO v a2 o' none none false (some (A 2 (U 42 b))) ∧ CN v A U (4 * U 42 b + U 43 b) ∧ 0 ≤ 4 * U 42 b + U 43 b ∧ AR v A U d (U 22 (U 42 b)) o') ∨
    (U 41 b = 7 ∧ U 42 b ≠ -1 ∧ ∃ a o', o = some a ∧ AO v a o' none none false none ∧ AR v A U d (U 22 (U 42 b)) o'))
section LKS
variable {r rd nm a : Nat} {h : am_H} {v v' : vT} {U : tSt} {A : Nat → Int → Nat} {x : Int} {Q : am_O → am_H → Prop} {l2 : Option am_V} {lam : Bool} {ou lp pa hd : Option Nat}
theorem AR_mono : ∀ (d e : Nat) (b : Int) (o : Option Nat), d ≤ e → AR v A U d b o → AR v A U e b o := by
  intro d
  induction d with
  | zero => intro e b o _ z; exact z.elim
  | succ d ih =>
    intro e b o he x
    cases e with
    | zero => omega
    | succ e =>
      have m := fun b o => ih e b o (by omega)
      rw [AR] at x ⊢
      obtain ⟨b0, x⟩ := x
      refine ⟨b0, ?_⟩
      rcases x with x | ⟨x1, x2, x3⟩ | ⟨x1, x2, a, o', x3, x4, x5⟩ | ⟨x1, x2, a, o', x3, x4, x5⟩ | ⟨x1, x2, a, o', x3, x4, x5⟩ | ⟨x1, x2, a, a2, o', x3, x4, x5, x6, x7, x8⟩ | ⟨x1, x2, a, o', x3, x4, x5⟩
      · exact Or.inl x
      · exact Or.inr (Or.inl ⟨x1, x2, m _ _ x3⟩)
      · exact Or.inr (Or.inr (Or.inl ⟨x1, x2, a, o', x3, x4, m _ _ x5⟩))
      · exact Or.inr (Or.inr (Or.inr (Or.inl ⟨x1, x2, a, o', x3, x4, m _ _ x5⟩)))
      · exact Or.inr (Or.inr (Or.inr (Or.inr (Or.inl ⟨x1, x2, a, o', x3, x4, m _ _ x5⟩))))
      · exact Or.inr (Or.inr (Or.inr (Or.inr (Or.inr (Or.inl ⟨x1, x2, a, a2, o', x3, x4, x5, x6, x7, m _ _ x8⟩)))))
      · exact Or.inr (Or.inr (Or.inr (Or.inr (Or.inr (Or.inr ⟨x1, x2, a, o', x3, x4, m _ _ x5⟩)))))
theorem lk_over (c : CR h v) (kr : hK v.1 rd = 2) (r15 : hR v.1 rd 15 = none) {l1 : Option am_V} {p : Bool} (ao : AO v a ou lp none lam hd) :
    Rn r 280 15 [some (vR (some rd)), l1, l2, some (vI (bI (p = true))), some (vR (some a))] [] h Q ↔ Rn r 280 15 [some (vR (some rd)), l1, l2, some (vI (bI ((p || lam) = true))), some (vR ou)] [] h Q := by
  obtain ⟨a1, a2, a3, a4, a5, a6⟩ := ao
  have k1 := c.kk kr (by decide)
  have k2 := c.kk a1 (by decide)
  rw [sX1_look_15, sX1_look_17, if_neg (by simp), sX1_look_20, sX1_look_21 k1, c.rr kr rfl, r15, sX1_look_24, if_neg (fun z => z rfl), sX1_look_27, sX1_look_29 k2, c.rr a1 rfl, a4, sX1_look_32, if_pos rfl, sX1_look_64, sX1_look_65, sX1_look_67 k2, c.ii a1 rfl, a5, sX1_look_70, bI_or, sX1_look_71, sX1_look_72, sX1_look_74 k2, c.rr a1 rfl, a2, sX1_look_77, sX1_look_79]
theorem c_lookL (kn : hK v.1 nm = 10) (ln : lts (vTx v nm)) (hx : wN (vTx v nm) = x) (c : CR h v) (kr : hK v.1 rd = 2) (r15 : hR v.1 rd 15 = none) : ∀ (d : Nat) (b : Int) (o : Option Nat) (p : Bool), AR v A U d b o →
    (∀ h' v', CR h' v' → Fw (fun a k => a = rd ∧ (k = 15 ∨ k = 16)) v v' → hR v'.1 rd 15 = optA (A 4) (tPO U x d b p).1 → ((tPO U x d b p).1 ≠ -1 → hI v'.1 rd 16 = bI ((tPO U x d b p).2 = true)) → hN v'.1 = hN v.1 → hS v'.1 = hS v.1 → Q (Sum.inl none) h') →
    Rn r 280 15 [some (vR (some rd)), some (vR (some nm)), l2, some (vI (bI (p = true))), some (vR o)] [] h Q := by
  intro d
  induction d with
  | zero => intro b o p z; exact z.elim
  | succ d ih =>
    intro b o p x0 q
    rw [AR] at x0
    obtain ⟨b0, x0⟩ := x0
    rw [tPO, if_neg (by omega)] at q
    rcases x0 with ⟨x1, x2, a, rfl, x3⟩ | ⟨x1, x2, x3⟩ | ⟨x1, x2, a, o', rfl, x4, x5⟩ | ⟨x1, x2, a, o', rfl, x4, x5⟩ | ⟨x1, x2, a, o', rfl, x4, x5⟩ | ⟨x1, x2, a, a2, o', rfl, x4, x5, x6, x7, x8⟩ | ⟨x1, x2, a, o', rfl, x4, x5⟩
    · rw [if_neg (by omega), if_pos x2] at q
      have e : ∀ z : Bool, tPO U x d (-1) z = (-1, z) := fun z => by cases d <;> rfl
      rw [e] at q
      rw [lk_over c kr r15 x3, sX1_look_15, sX1_look_17, if_pos rfl, sX1_look_82]
      exact q h v c Fw.refl (by rw [r15]; rfl) (fun z => absurd rfl z) rfl rfl
    · rw [if_neg (by omega), if_neg x2, decide_eq_false (by omega), decide_eq_false (by omega), Bool.or_false, Bool.or_false] at q
      exact ih _ _ _ x3 q
    · rw [if_neg (by omega), if_neg x2, decide_eq_false (by omega), decide_eq_false (by omega), Bool.or_false, Bool.or_false] at q
      rw [lk_over c kr r15 x4, Bool.or_false]
      exact ih _ _ _ x5 q
    · rw [if_neg (by omega), if_neg x2] at q
      have e : (p || decide (U 41 b = 1) || decide (U 41 b = 8)) = (p || true) := by
        rcases x1 with x1 | x1 <;> rw [x1] <;> cases p <;> rfl
      rw [e] at q
      rw [lk_over c kr r15 x4]
      exact ih _ _ _ x5 q
    · rw [if_neg (by omega), if_neg x2, decide_eq_false (by omega), decide_eq_false (by omega), Bool.or_false, Bool.or_false] at q
      rw [lk_over c kr r15 x4, Bool.or_false]
      exact ih _ _ _ x5 q
    · have k1 := c.kk kr (by decide)
      have k2 := c.kk x4.1 (by decide)
      obtain ⟨kc, nm2, n1, n2, n3, n4⟩ := x6
      have kc1 := c.kk kc (by decide)
      obtain ⟨b1, rs1, _⟩ := c.rs (Or.inl kn)
      obtain ⟨b2, rs2, _⟩ := c.rs (Or.inl n2)
      have kn2 := c.kk n2 (by decide)
      rw [sX1_look_15, sX1_look_17, if_neg (by simp), sX1_look_20, sX1_look_21 k1, c.rr kr rfl, r15, sX1_look_24, if_neg (fun z => z rfl), sX1_look_27, sX1_look_29 k2, c.rr x4.1 rfl, x4.2.2.2.1, sX1_look_32, if_neg (by simp), sX1_look_35, sX1_look_37 k2, c.rr x4.1 rfl, x4.2.2.2.1, sX1_look_40 kc1, c.rr kc rfl, n1, sX1_look_43, sX1_look_44 (by omega) (by omega), st_equals rs2 rs1, Kt_v, sX1_look_47]
      have iff : vTx v nm2 = vTx v nm ↔ U 35 (4 * U 42 b + U 43 b) = x := by rw [← n3, ← hx, wN_inj n4.2 ln]
      by_cases e : U 35 (4 * U 42 b + U 43 b) = x
      · rw [if_pos ⟨x1, e⟩] at q
        have c2 := CR_pI (k := 16) (x := bI (p = true)) (CR_pR (k := 15) (z := some (A 4 (4 * U 42 b + U 43 b))) c kr rfl) (by exact kr) rfl
        have f2 : Fw (fun a k => a = rd ∧ (k = 15 ∨ k = 16)) v (vpI (vpR v rd 15 (some (A 4 (4 * U 42 b + U 43 b)))) rd 16 (bI (p = true))) := (Fw.refl.pR (Or.inr ⟨rfl, Or.inl rfl⟩)).pI (Or.inr ⟨rfl, Or.inr rfl⟩)
        rw [if_pos (iff.mpr e), if_neg (by decide), sX1_look_50, sX1_look_51, sX1_look_53 k2, c.rr x4.1 rfl, x4.2.2.2.1, sX1_look_56 k1, sX1_look_59, sX1_look_60, sX1_look_61 (by rw [hK_putR]; exact k1) fit_b, sX1_look_64, sX1_look_65, sX1_look_67 (by rw [hK_putI, hK_putR]; exact k2)]
        rw [sX1_look_70, sX1_look_71, sX1_look_72, sX1_look_74 (by rw [hK_putI, hK_putR]; exact k2), sX1_look_77, sX1_look_79, sX1_look_15, sX1_look_17]
        have fin : Q (Sum.inl none) (putI (putR h rd 15 (some (A 4 (4 * U 42 b + U 43 b)))) rd 16 (bI (p = true))) := by
          refine q _ _ c2 f2 ?_ (fun _ => ?_) rfl rfl
          · rw [vpI_1, hR_putI, vpR_1, hR_putR, if_pos ⟨rfl, rfl⟩, optA_s (by omega)]
          · rw [vpI_1, hI_putI, if_pos ⟨rfl, rfl⟩]
        generalize hR (putI (putR h rd 15 (some (A 4 (4 * U 42 b + U 43 b)))) rd 16 (bI (p = true))) a 0 = oo
        split
        · rw [sX1_look_82]
          exact fin
        · rw [sX1_look_20, sX1_look_21 (by rw [hK_putI, hK_putR]; exact k1), hR_putI, hR_putR, if_pos ⟨rfl, rfl⟩, sX1_look_24, if_pos (by simp), sX1_look_82]
          exact fin
      · rw [if_neg (fun z => e z.2), if_neg x2, decide_eq_false (by omega), decide_eq_false (by omega), Bool.or_false, Bool.or_false] at q
        rw [if_neg (fun z => e (iff.mp z)), if_pos rfl, sX1_look_64, sX1_look_65, sX1_look_67 k2, c.ii x4.1 rfl, x4.2.2.2.2.1, sX1_look_70, bI_or, Bool.or_false, sX1_look_71, sX1_look_72, sX1_look_74 k2, c.rr x4.1 rfl, x4.2.1, sX1_look_77, sX1_look_79, lk_over c kr r15 x5, Bool.or_false]
        exact ih _ _ _ x8 q
    · rw [if_neg (by omega), if_neg x2, decide_eq_false (by omega), decide_eq_false (by omega), Bool.or_false, Bool.or_false] at q
      rw [lk_over c kr r15 x4, Bool.or_false]
      exact ih _ _ _ x5 q
theorem AO_fw {X : Nat → Nat → Prop} (f : Fw X v v') (hx : ∀ k, ¬ X a k) (x : AO v a ou lp pa lam hd) : AO v' a ou lp pa lam hd := by
  obtain ⟨a1, a2, a3, a4, a5, a6⟩ := x
  have lt := hK_lt a1 (by decide)
  exact ⟨f.kk a1 (by decide), by rw [(f.ff lt (hx 0)).2.2]; exact a2, by rw [(f.ff lt (hx 1)).2.2]; exact a3, by rw [(f.ff lt (hx 2)).2.2]; exact a4, by rw [(f.ff lt (hx 3)).1]; exact a5, by rw [(f.ff lt (hx 4)).2.2]; exact a6⟩
theorem CN_fw {X : Nat → Nat → Prop} {c : Int} (f : Fw X v v') (hx : ∀ a k, X a k → hK v.1 a ≠ 20 ∧ (hK v.1 a = 22 → k ≠ 2) ∧ (k = 99 → hK v.1 a ≠ 10)) (x : CN v A U c) : CN v' A U c := by
  obtain ⟨c1, nm, c2, c3, c4, c5⟩ := x
  have tx : vTx v' nm = vTx v nm := (f.cc (hK_lt c3 (by decide)) (fun z => (hx _ _ z).2.2 rfl c3)).2.2.2
  exact ⟨f.kk c1 (by decide), nm, by rw [(f.ff (hK_lt c1 (by decide)) (fun z => (hx _ _ z).2.1 c1 rfl)).2.2]; exact c2, f.kk c3 (by decide), by rw [tx]; exact c4, by rw [tx]; exact c5⟩
theorem AR_fw {X : Nat → Nat → Prop} (f : Fw X v v') (hx : ∀ a k, X a k → hK v.1 a ≠ 20 ∧ (hK v.1 a = 22 → k ≠ 2) ∧ (k = 99 → hK v.1 a ≠ 10)) : ∀ (d : Nat) (b : Int) (o : Option Nat), AR v A U d b o → AR v' A U d b o := by
  intro d
  induction d with
  | zero => intro b o z; exact z
  | succ d m =>
    intro b o x
    have g : ∀ {a ou lp pa lam hd}, AO v a ou lp pa lam hd → AO v' a ou lp pa lam hd := fun y => AO_fw f (fun k z => (hx _ _ z).1 y.1) y
    rw [AR] at x ⊢
    obtain ⟨b0, x⟩ := x
    refine ⟨b0, ?_⟩
    rcases x with ⟨x1, x2, a, x3, x4⟩ | ⟨x1, x2, x3⟩ | ⟨x1, x2, a, o', x3, x4, x5⟩ | ⟨x1, x2, a, o', x3, x4, x5⟩ | ⟨x1, x2, a, o', x3, x4, x5⟩ | ⟨x1, x2, a, a2, o', x3, x4, x5, x6, x7, x8⟩ | ⟨x1, x2, a, o', x3, x4, x5⟩
    · exact Or.inl ⟨x1, x2, a, x3, g x4⟩
    · exact Or.inr (Or.inl ⟨x1, x2, m _ _ x3⟩)
    · exact Or.inr (Or.inr (Or.inl ⟨x1, x2, a, o', x3, g x4, m _ _ x5⟩))
    · exact Or.inr (Or.inr (Or.inr (Or.inl ⟨x1, x2, a, o', x3, g x4, m _ _ x5⟩)))
    · exact Or.inr (Or.inr (Or.inr (Or.inr (Or.inl ⟨x1, x2, a, o', x3, g x4, m _ _ x5⟩))))
    · exact Or.inr (Or.inr (Or.inr (Or.inr (Or.inr (Or.inl ⟨x1, x2, a, a2, o', x3, g x4, g x5, CN_fw f hx x6, x7, m _ _ x8⟩)))))
    · exact Or.inr (Or.inr (Or.inr (Or.inr (Or.inr (Or.inr ⟨x1, x2, a, o', x3, g x4, m _ _ x5⟩)))))
theorem c_look {b : Int} {o : Option Nat} (kn : hK v.1 nm = 10) (ln : lts (vTx v nm)) (hx : wN (vTx v nm) = x) (c : CR h v) (kr : hK v.1 rd = 2) (ar : AR v A U (b + 2).toNat b o)
    (q : ∀ h' v', CR h' v' → Fw (fun a k => a = rd ∧ (k = 15 ∨ k = 16)) v v' → hR v'.1 rd 15 = optA (A 4) (pO U x b).1 → ((pO U x b).1 ≠ -1 → hI v'.1 rd 16 = bI ((pO U x b).2 = true)) → hN v'.1 = hN v.1 → hS v'.1 = hS v.1 → Q (Sum.inl none) h') :
    Cl r 280 [vR (some rd), vR (some nm), vR o] h Q := by
  have k1 := c.kk kr (by decide)
  have f1 : Fw (fun a k => a = rd ∧ (k = 15 ∨ k = 16)) v (vpI (vpR v rd 15 none) rd 16 0) := (Fw.refl.pR (Or.inr ⟨rfl, Or.inl rfl⟩)).pI (Or.inr ⟨rfl, Or.inr rfl⟩)
  have c1 := CR_pI (k := 16) (x := (0 : Int32)) (CR_pR (k := 15) (z := none) c kr rfl) (by exact kr) rfl
  rw [eX1_look, sX1_look_0, sX1_look_1, sX1_look_2 k1, sX1_look_5, sX1_look_6, sX1_look_7 (by rw [hK_putR]; exact k1) rfl, sX1_look_10, sX1_look_11, sX1_look_12, sX1_look_13]
  refine c_lookL (v := vpI (vpR v rd 15 none) rd 16 0) (by exact kn) (by exact ln) (by exact hx) c1 (by exact kr) (by rw [vpI_1, hR_putI, vpR_1, hR_putR, if_pos ⟨rfl, rfl⟩]) (b + 2).toNat b o false (AR_fw f1 (fun a k z => ?_) _ _ _ ar) (fun h' v' c' f' e1 e2 n1 s1 => ?_)
  · rw [z.1, kr]
    exact ⟨by decide, fun y => absurd y (by decide), fun y => by have := z.2; omega⟩
  · exact q h' v' c' (f1.trans f') e1 e2 n1 s1
end LKS
