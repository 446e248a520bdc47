/-! COMPONENT, 55: set: plain(221) *-/
/-- what a set may change: tokens, mistakes, the statement a, catches D -/
def XU (R : Nat → Nat) (a : Nat) (D : Nat → Prop) (b k : Nat) : Prop := Xr (R 0) (R 2) b k ∨ (b = R 9 ∧ k = 99) ∨ (b = a ∧ k = 6) ∨ (D b ∧ k = 4)
section STS
variable {r a : Nat} {h : am_H} {R : Nat → Nat} {A : Nat → Int → Nat} {T : Nat → Nat} {w s p0 cc : Int} {v : vT} {S U : tSt} {o : Option Nat} {Q : am_O → am_H → Prop} {L : List tMi} {ou : Bool}
/-- mistakes of a set -/
def mZt (U : tSt) (p c : Int) (o : Bool) : List tMi := if c = -1 then [(1, (p, -1))] else (if 1 < U 37 c then [(6, (p, -1))] else []) ++ (if o = true then [(12, (p, -1))] else [])
theorem mZt_len {p : Int} : (mZt U p cc ou).length ≤ 2 := by
  unfold mZt
  split
  · exact Nat.le_succ 1
  · rw [List.length_append]
    exact Nat.add_le_add if_len if_len
theorem c_plain3 (cr : CR h v) (md : MD R A T w s p0 v S U o) (ka : hK v.1 a = 30) (k5 : hI v.1 a 5 = iI 3) (ml : ML v (R 9) L) (hl : L.length ≤ 2700) (ec : (pO U (S 50 0) (U 22 s)).1 = cc) (eo : (pO U (S 50 0) (U 22 s)).2 = ou)
    (q1 : tIsN S = true → tName S 51 0 = 59 → tAdv (tName S) 51 0 ≠ -2 → ∀ h' v', CR h' v' → Fw (XU R a (fun b => cc ≠ -1 ∧ b = A 4 cc)) v v' → PT v' (R 0) (R 1) (R 2) (tAdv (tName S)) → hR v'.1 a 6 = optA (A 4) cc → (cc ≠ -1 → hI v'.1 (A 4 cc) 4 = iI 1) → ML v' (R 9) (insA L (mZt U (S 49 0) cc ou)) →
      RM (R 9) v v' (20 * (tAdv (tName S) 47 0 - S 47 0) + 10) (200 * (tAdv (tName S) 47 0 - S 47 0) + 100) → Q (Sum.inl none) h')
    (q2 : ∀ h' v' p, CR h' v' → Fw (XU R a (fun b => cc ≠ -1 ∧ b = A 4 cc)) v v' → RM (R 9) v v' (20 * (S 48 0 - S 47 0) + 20) (200 * (S 48 0 - S 47 0) + 200) → hI v'.1 (R 2) 6 = iI p → vCp v' (R 9) ≤ 6000 → (∀ V, doom w (tTs S, V) p) → Q (Sum.inr (R 2)) h') : Cl r 221 [vR (some (R 0)), vR (some a), vR o] h Q := by
  obtain ⟨g, ⟨hP, pr, qv, w0⟩, ⟨d1, s52⟩, ar, hsA, e22, ch⟩ := md
  have g' := g
  obtain ⟨g1, g2, g3, g4, g5, g6, ⟨g7, g8, g9⟩, _, gc, gd, ge, gf, gg, gh, gj⟩ := g'
  have k0 := g1.w0.1
  have k2 := g1.w0.2.1
  have k9 := g.k9
  have si := g1.2.1
  have le := g1.le
  have s49 := si.2.1
  have kt := g1.w0.2.2
  have na0 : a ≠ R 0 := fun e => by rw [← e, ka] at k0; exact absurd k0 (by decide)
  have na2 : a ≠ R 2 := fun e => by rw [← e, ka] at k2; exact absurd k2 (by decide)
  have na1 : a ≠ R 1 := fun e => by rw [← e, ka] at kt; exact absurd kt (by decide)
  have cpl := ml.2
  have cF : cc ≠ -1 → CF v A T U w cc := fun q => by
    have y := pO_As pr.1 qv w0.1 (x := S 50 0) (pr.1.1 s hsA).1 (by rw [ec]; exact q)
    rw [ec] at y
    exact (gg cc y.1 y.2.1).1
  rw [eX1_plain, sX1_plain_0, sX1_plain_1 (cr.kk ka (by decide)), cr.ii ka rfl, k5, sX1_plain_4, sX1_plain_5, i_3, if_neg (fun z => z rfl), sX1_plain_8, sX1_plain_9, sX1_plain_10 (cr.kk k0 (by decide))]
  have bad : ∀ h1 v1 p, CR h1 v1 → Wg (R 0) (R 2) 4 40 v v1 p → (∀ V, doom w (tTs S, V) p) → Q (Sum.inr (R 2)) h1 := fun h1 v1 p c1 wg dm => by
    obtain ⟨w1, w2, w3, w4, w5⟩ := wg
    have cp1 : vCp v1 (R 9) = vCp v (R 9) := (w1.cc (hK_lt k9 (by decide)) (fun y => by rcases y with y | y <;> omega)).2.2.1
    refine q2 h1 v1 p c1 (w1.mono (fun b k y => ?_)) ⟨w1.1, by omega, w4, by rw [cp1]; omega, by rw [cp1]; exact Nat.le_refl _⟩ w2 (by rw [cp1]; omega) dm
    rcases y with y | y
    · exact Or.inl (Or.inl ⟨y.1, by omega⟩)
    · exact Or.inl (Or.inr y)
  refine t_name cr g1 (fun n z h1 v1 nm c1 f1 t1 na n1' s0 s1 => ?_) (fun n z h1 v1 c1 wg => ?_) (fun n h1 v1 c1 wg => ?_)
  · obtain ⟨n1, n2, n55, n56, n48, n52, n47⟩ := nm_name si g1.2.2.1 n
    obtain ⟨f53, f54, f47, f49, f50, f51⟩ := tName_g n
    have n48' : tName S 48 0 = S 48 0 := by rw [n48]
    have n47' : tName S 47 0 ≤ S 48 0 := by have := n1.1.2.1; omega
    have b47 := tAdv_47 n1
    have b48 : tAdv (tName S) 47 0 ≤ S 48 0 := by have := (SI_adv n1).1.2.1; rw [tAdv_55.2.2.1] at this; omega
    have k01 := f1.kk k0 (by decide)
    have ka1 := f1.kk ka (by decide)
    have ar1 := AR_q f1 g ar
    rw [Kt_v, sX1_plain_13, sX1_plain_14 (c1.kk k01 (by decide))]
    refine c_look na.1 na.2.2.1.2 (by rw [na.2.1, f53]) c1 k01 ar1 (fun h2 v2 c2 f2 r15 i16 n2' s2' => ?_)
    rw [ec] at r15 i16
    rw [eo] at i16
    have k02 := f2.kk k01 (by decide)
    have ka2 := f2.kk ka1 (by decide)
    rw [Kt_0, sX1_plain_17, sX1_plain_18, sX1_plain_19 (c2.kk k02 (by decide)), c2.rr k02 rfl, r15, sX1_plain_22 (c2.kk ka2 (by decide))]
    have c3 := CR_pR (k := 6) (z := optA (A 4) cc) c2 ka2 rfl
    have F3 : Fw (fun b k => Xr (R 0) (R 2) b k ∨ (b = a ∧ k = 6)) v (vpR v2 a 6 (optA (A 4) cc)) := ((f1.mono (fun b k y => by
      rcases y with y | y
      · exact Or.inl (Or.inl ⟨y.1, by omega⟩)
      · exact Or.inl (Or.inr y))).trans (f2.mono (fun b k y => Or.inl (Or.inl ⟨y.1, by omega⟩)))).pR (Or.inr (Or.inr ⟨rfl, rfl⟩))
    have f23 : Fw (fun b k => (b = R 0 ∧ (k = 15 ∨ k = 16)) ∨ (b = a ∧ k = 6)) v1 (vpR v2 a 6 (optA (A 4) cc)) := (f2.mono (fun b k y => Or.inl y)).pR (Or.inr (Or.inr ⟨rfl, rfl⟩))
    have t3 : PT (vpR v2 a 6 (optA (A 4) cc)) (R 0) (R 1) (R 2) (tName S) := PT_fw f23 t1 (fun k hk y => by
      rcases y with y | y
      · omega
      · exact na0 y.1.symm) (fun k y => by
      have := t1.w0.2.2
      rcases y with y | y
      · rw [y.1, k01] at this
        exact absurd this (by decide)
      · exact na1 y.1.symm) (fun b y => by omega)
    have r153 : hR (vpR v2 a 6 (optA (A 4) cc)).1 (R 0) 15 = optA (A 4) cc := by
      rw [vpR_1, hR_putR, if_neg (fun y => na0 y.1.symm)]
      exact r15
    have i163 : cc ≠ -1 → hI (vpR v2 a 6 (optA (A 4) cc)).1 (R 0) 16 = bI (ou = true) := fun q => by rw [vpR_1, hI_putR]; exact i16 q
    have i143 : hI (vpR v2 a 6 (optA (A 4) cc)).1 (R 0) 14 = iI (S 49 0) := by
      rw [(f23.ff (k := 14) (hK_lt k01 (by decide)) (fun y => by
        rcases y with y | y
        · omega
        · omega)).1, na.2.2.2, f54]
    have r63 : hR (vpR v2 a 6 (optA (A 4) cc)).1 a 6 = optA (A 4) cc := by rw [vpR_1, hR_putR, if_pos ⟨rfl, rfl⟩]
    have cp3 : vCp (vpR v2 a 6 (optA (A 4) cc)) (R 9) = vCp v (R 9) := by
      show vCp v2 (R 9) = _
      rw [(f2.cc (hK_lt (f1.kk k9 (by decide)) (by decide)) (fun y => by omega)).2.2.1, (f1.cc (hK_lt k9 (by decide)) (fun y => by rcases y with y | y <;> omega)).2.2.1]
    have rm3 : RM (R 9) v (vpR v2 a 6 (optA (A 4) cc)) (20 * (tName S 47 0 - S 47 0) + 4) (200 * (tName S 47 0 - S 47 0) + 40) := by
      refine ⟨F3.1, ?_, ?_, ?_, by rw [cp3]; exact Nat.le_refl _⟩
      · show (hN v2.1 : Int) ≤ _
        omega
      · show hS v.1 ≤ hS v2.1
        omega
      · rw [cp3]
        show (hS v2.1 : Int) + _ ≤ _
        omega
    generalize (vpR v2 a 6 (optA (A 4) cc)) = v3 at *
    generalize (putR h2 a 6 (optA (A 4) cc)) = h3 at *
    have k03 := F3.kk k0 (by decide)
    have ka3 := F3.kk ka (by decide)
    have k93 := F3.kk k9 (by decide)
    have x3 : ∀ b k, (Xr (R 0) (R 2) b k ∨ (b = a ∧ k = 6)) → (hK v.1 b = 2 ∧ (3 ≤ k ∧ k ≤ 6 ∨ 14 ≤ k ∧ k ≤ 16)) ∨ (hK v.1 b = 3 ∧ k = 6) ∨ (b = a ∧ k = 6) := fun b k y => by
      rcases y with (y | y) | y
      · exact Or.inl ⟨by rw [y.1]; exact k0, y.2⟩
      · exact Or.inr (Or.inl ⟨by rw [y.1]; exact k2, y.2⟩)
      · exact Or.inr (Or.inr y)
    have ml3 : ML v3 (R 9) L := ML_fw F3 ml (fun y => by have := x3 _ _ y; omega) (fun b k y hk => by have := x3 _ _ y; omega)
    have ru3 : RUn v3 (R 0) (R 3) (R 5) (R 9) := RUn_fw F3 g2 (fun y => by have := x3 _ _ y; omega) (fun k hk y => by
      have kk := g2.2.2.1
      rcases x3 _ _ y with z | z | z
      · omega
      · omega
      · rw [z.1, ka] at kk
        exact absurd kk (by decide))
    have FX3 : Fw (XU R a (fun b => cc ≠ -1 ∧ b = A 4 cc)) v v3 := F3.mono (fun b k y => by
      rcases y with y | y
      · exact Or.inl y
      · exact Or.inr (Or.inr (Or.inl y)))
    -- what follows: the sign
    have fin : ∀ h4 v4, CR h4 v4 → Fw (XU R a (fun b => cc ≠ -1 ∧ b = A 4 cc)) v v4 → PT v4 (R 0) (R 1) (R 2) (tName S) → hR v4.1 a 6 = optA (A 4) cc → (cc ≠ -1 → hI v4.1 (A 4 cc) 4 = iI 1 ∧ hK v4.1 (A 4 cc) = 22) → ML v4 (R 9) (insA L (mZt U (S 49 0) cc ou)) → RM (R 9) v v4 (20 * (tName S 47 0 - S 47 0) + 10) (200 * (tName S 47 0 - S 47 0) + 100) →
        Rn r 221 105 [some (vR (some (R 0))), some (vR (some a)), some (vR o)] [] h4 Q := by
      intro h4 v4 c4 F4 t4 e6 e4 ml4 rm4
      have k04 := F4.kk k0 (by decide)
      have k24 := F4.kk k2 (by decide)
      have ka4 := F4.kk ka (by decide)
      have k94 := F4.kk k9 (by decide)
      have cp4 := ml4.2
      rw [insA_len] at cp4
      have il := mZt_len (U := U) (cc := cc) (ou := ou) (p := S 49 0)
      have xq : ∀ b k, Xq (R 0) (R 2) b k → (b = R 0 ∨ b = R 2) ∧ k ≠ 99 := fun b k y => by
        rcases y with y | y
        · exact ⟨Or.inl y.1, by omega⟩
        · exact ⟨Or.inr y.1, by omega⟩
      have wgf : ∀ h5 v5 p, CR h5 v5 → Wg (R 0) (R 2) 0 0 v4 v5 p → (∀ V, doom w (tTs S, V) p) → Q (Sum.inr (R 2)) h5 := fun h5 v5 p c5 wg dm => by
        obtain ⟨w1, w2, w3, w4, w5⟩ := wg
        have cp5 : vCp v5 (R 9) = vCp v4 (R 9) := (w1.cc (hK_lt k94 (by decide)) (fun y => (xq _ _ y).2 rfl)).2.2.1
        refine q2 h5 v5 p c5 (F4.trans (w1.mono (fun b k y => ?_))) ((rm4.trans ⟨w1.1, ?_, w4, ?_, ?_⟩ : RM (R 9) v v5 (20 * (tName S 47 0 - S 47 0) + 10 + 0) (200 * (tName S 47 0 - S 47 0) + 100 + 0)).le (by omega) (by omega)) w2 (by rw [cp5]; omega) dm
        · rcases y with y | y
          · exact Or.inl (Or.inl ⟨y.1, by omega⟩)
          · exact Or.inl (Or.inr y)
        · omega
        · rw [cp5]
          omega
        · rw [cp5]
          exact Nat.le_refl _
      rw [sX1_plain_105, sX1_plain_106, sX1_plain_108 (c4.kk k04 (by decide)), i_59]
      refine t_want c4 t4 (by omega) (fun x51 z2 h5 v5 c5 f5 t5 n5 s05 s5 _ => ?_) (fun x51 z2 h5 v5 c5 wg => ?_) (fun x51 h5 v5 c5 wg => ?_)
      · have cp5 : vCp v5 (R 9) = vCp v4 (R 9) := (f5.cc (hK_lt k94 (by decide)) (fun y => (xq _ _ y).2 rfl)).2.2.1
        rw [Kt_0, sX1_plain_111]
        refine q1 n x51 z2 h5 v5 c5 (F4.trans (f5.mono (fun b k y => ?_))) t5 (by rw [(f5.ff (k := 6) (hK_lt ka4 (by decide)) (fun y => by rcases (xq _ _ y).1 with z | z; exact na0 z; exact na2 z)).2.2]; exact e6) (fun q => ?_) (ML_fw f5 ml4 (fun y => (xq _ _ y).2 rfl) (fun b k y hk => ?_)) ((rm4.trans ⟨f5.1, n5, s05, ?_, ?_⟩ : RM (R 9) v v5 (20 * (tName S 47 0 - S 47 0) + 10 + 20 * (tAdv (tName S) 47 0 - tName S 47 0)) (200 * (tName S 47 0 - S 47 0) + 100 + 200 * (tAdv (tName S) 47 0 - tName S 47 0))).le (by omega) (by omega))
        · rcases y with y | y
          · exact Or.inl (Or.inl ⟨y.1, by omega⟩)
          · exact Or.inl (Or.inr y)
        · obtain ⟨y1, y2⟩ := e4 q
          rw [(f5.ff (k := 4) (hK_lt y2 (by decide)) (fun y => by
            rcases (xq _ _ y).1 with z | z
            · rw [z, k04] at y2
              exact absurd y2 (by decide)
            · rw [z, k24] at y2
              exact absurd y2 (by decide))).1]
          exact y1
        · rcases (xq _ _ y).1 with z | z
          · rw [z, k04]; decide
          · rw [z, k24]; decide
        · rw [cp5]
          omega
        · rw [cp5]
          exact Nat.le_refl _
      · rw [Kt_x]
        refine wgf h5 v5 _ c5 wg (fun V => ?_)
        unfold tTs tTake
        rw [if_pos n, if_pos x51]
        exact doom_bad (by rw [tAdv_52, n52]; exact s52) (SI_adv n1) (TK_adv n1.1) z2
      · rw [Kt_x]
        refine wgf h5 v5 _ c5 wg (fun V => ?_)
        unfold tTs
        rw [if_pos n]
        exact doom_take (by rw [n52]; exact s52) n1 x51
    -- a mistake leaves alone what matters here
    have mi : ∀ {v4 v5 : vT} {c0 d0 : Int} {Lx : List tMi} {m : tMi}, ML v4 (R 9) Lx → Fw (fun b k => b = R 9 ∧ k = 99) v4 v5 → MiA v4 v5 (R 9) Lx [m] → RM (R 9) v v4 c0 d0 → ML v5 (R 9) (insA Lx [m]) ∧ RM (R 9) v v5 (c0 + 2) (d0 + 3) := fun {v4 v5 c0 d0 Lx m} m4 f5 ma rm => by
      obtain ⟨y1, y2⟩ := ML_add m4 ma f5.1
      exact ⟨y1, (rm.trans y2).le (by simp) (by simp)⟩
    have ptm : ∀ {v4 v5 : vT}, hK v4.1 (R 9) = 4 → PT v4 (R 0) (R 1) (R 2) (tName S) → Fw (fun b k => b = R 9 ∧ k = 99) v4 v5 → PT v5 (R 0) (R 1) (R 2) (tName S) := fun {v4 v5} k t f => PT_fw f t (fun k hk y => by omega) (fun j y => by have := t.w0.2.2; rw [y.1, k] at this; exact absurd this (by decide)) (fun b y => by rw [y.1, k]; decide)
    have unit := ru3.2.1
    rw [sX1_plain_25, sX1_plain_26 (c3.kk k03 (by decide)), c3.rr k03 rfl, r153, sX1_plain_29]
    by_cases e : cc = -1
    · rw [e, optA_n, if_neg (fun q => q rfl), sX1_plain_32, sX1_plain_33 (c3.kk k03 (by decide)), c3.rr k03 rfl, unit, sX1_plain_36, sX1_plain_37, sX1_plain_38 (c3.kk k03 (by decide)), c3.ii k03 rfl, i143, sX1_plain_41, sX1_plain_42 (c3.kk ru3.2.2.1 (by decide)), i_m1, i_1]
      refine c_mi1 c3 ru3.2.2.1 ru3.2.2.2.2.2 ml3.1 (by omega) (by omega) (by omega) (by omega) (fun h4 v4 c4 f4 ma => ?_)
      obtain ⟨y1, y2⟩ := mi ml3 f4 ma rm3
      rw [Kt_0, sX1_plain_45]
      refine fin h4 v4 c4 (FX3.trans (f4.mono (fun b k y => Or.inr (Or.inl y)))) (ptm k93 t3 f4) ?_ (fun q => absurd e q) ?_ (y2.le (by omega) (by omega))
      · rw [(f4.ff (k := 6) (hK_lt ka3 (by decide)) (fun y => by omega)).2.2]
        exact r63
      · unfold mZt
        rw [if_pos e]
        exact y1
    · have cf := cF e
      have kc3 := F3.kk cf.1 (by decide)
      obtain ⟨x1, x2, x3', x4, l, x5, x6, x7⟩ := cf
      have nac : A 4 cc ≠ a := fun q => by rw [q, ka] at x1; exact absurd x1 (by decide)
      have nc0 : A 4 cc ≠ R 0 := fun q => by rw [q, k0] at x1; exact absurd x1 (by decide)
      have nc1 : A 4 cc ≠ R 1 := fun q => by rw [q, kt] at x1; exact absurd x1 (by decide)
      have nc9 : A 4 cc ≠ R 9 := fun q => by rw [q, k9] at x1; exact absurd x1 (by decide)
      have fit1 : am_fit 4 (1 : Int32) = true := rfl
      rw [optA_s e, if_pos (by simp), sX1_plain_48, sX1_plain_49 (c3.kk k03 (by decide)), c3.rr k03 rfl, r153, optA_s e, sX1_plain_52, sX1_plain_53 (c3.kk kc3 (by decide)) fit1, sX1_plain_56, sX1_plain_57 (by rw [hK_putI]; exact c3.kk k03 (by decide)), hR_putI, c3.rr k03 rfl, r153, optA_s e, sX1_plain_60 (by rw [hK_putI]; exact c3.kk kc3 (by decide))]
      have c4 := CR_pI (k := 4) (x := (1 : Int32)) c3 kc3 rfl
      have f4 : Fw (fun b k => b = A 4 cc ∧ k = 4) v3 (vpI v3 (A 4 cc) 4 1) := Fw.refl.pI (Or.inr ⟨rfl, rfl⟩)
      have i44 : hI (vpI v3 (A 4 cc) 4 1).1 (A 4 cc) 4 = iI 1 := by rw [vpI_1, hI_putI, if_pos ⟨rfl, rfl⟩, i_1]
      have F4 : Fw (XU R a (fun b => cc ≠ -1 ∧ b = A 4 cc)) v (vpI v3 (A 4 cc) 4 1) := FX3.trans (f4.mono (fun b k y => Or.inr (Or.inr (Or.inr ⟨⟨e, y.1⟩, y.2⟩))))
      have rm4 : RM (R 9) v (vpI v3 (A 4 cc) 4 1) (20 * (tName S 47 0 - S 47 0) + 4) (200 * (tName S 47 0 - S 47 0) + 40) := rm3
      generalize (vpI v3 (A 4 cc) 4 1) = v4 at *
      generalize (putI h3 (A 4 cc) 4 1) = h4 at *
      have k04 := F4.kk k0 (by decide)
      have kc4 := F4.kk x1 (by decide)
      have k94 := F4.kk k9 (by decide)
      have ka4 := F4.kk ka (by decide)
      have f40 := fun j => f4.ff (k := j) (hK_lt k03 (by decide)) (fun y => nc0 y.1.symm)
      have r1 : hR v4.1 (A 4 cc) 1 = some l := by
        rw [(f4.ff (k := 1) (hK_lt kc3 (by decide)) (fun y => by omega)).2.2, (F3.ff (k := 1) (hK_lt x1 (by decide)) (fun y => by have := x3 _ _ y; omega)).2.2]
        exact x5
      have kl4 := F4.kk x7.1 (by decide)
      have len4 : (vLs v4 l).length = (U 37 cc).toNat := by
        rw [(f4.cc (hK_lt (F3.kk x7.1 (by decide)) (by decide)) (fun y => by omega)).1, (F3.cc (hK_lt x7.1 (by decide)) (fun y => by have := x3 _ _ y; omega)).1]
        exact x7.2.1
      have b37 := QV_b qv (f := 37) (c := 4) rfl rfl rfl cc
      have ml4 : ML v4 (R 9) L := ML_fw f4 ml3 (fun y => by omega) (fun b k y hk => by omega)
      have ru4 : RUn v4 (R 0) (R 3) (R 5) (R 9) := RUn_fw f4 ru3 (fun y => by omega) (fun k hk y => by have := ru3.2.2.1; rw [y.1, kc3] at this; exact absurd this (by decide))
      have t4 : PT v4 (R 0) (R 1) (R 2) (tName S) := PT_fw f4 t3 (fun k hk y => nc0 y.1.symm) (fun k y => nc1 y.1.symm) (fun b y => by omega)
      have i144 : hI v4.1 (R 0) 14 = iI (S 49 0) := by rw [(f40 14).1]; exact i143
      have i164 : hI v4.1 (R 0) 16 = bI (ou = true) := by rw [(f40 16).1]; exact i163 e
      have r64 : hR v4.1 a 6 = optA (A 4) cc := by rw [(f4.ff (k := 6) (hK_lt ka3 (by decide)) (fun y => by omega)).2.2]; exact r63
      -- outside of its lambda?
      have out : ∀ h5 v5 (E : List tMi), CR h5 v5 → Fw (fun b k => b = R 9 ∧ k = 99) v4 v5 → E = (if 1 < U 37 cc then [(6, (S 49 0, -1))] else []) → ML v5 (R 9) (insA L E) → RM (R 9) v v5 (20 * (tName S 47 0 - S 47 0) + 6) (200 * (tName S 47 0 - S 47 0) + 43) → Rn r 221 84 [some (vR (some (R 0))), some (vR (some a)), some (vR o)] [] h5 Q := by
        intro h5 v5 E c5 f5 eE ml5 rm5
        have k05 := f5.kk k04 (by decide)
        have k95 := f5.kk k94 (by decide)
        have f50 := fun j (hj : j ≠ 99) => f5.ff (k := j) (hK_lt k04 (by decide)) (fun y => hj y.2)
        have ru5 : RUn v5 (R 0) (R 3) (R 5) (R 9) := RUn_fw f5 ru4 (fun y => by omega) (fun k hk y => by omega)
        have t5 := ptm k94 t4 f5
        have r65 : hR v5.1 a 6 = optA (A 4) cc := by rw [(f5.ff (k := 6) (hK_lt ka4 (by decide)) (fun y => by omega)).2.2]; exact r64
        have e45 : hI v5.1 (A 4 cc) 4 = iI 1 := by rw [(f5.ff (k := 4) (hK_lt kc4 (by decide)) (fun y => by omega)).1]; exact i44
        have kc5 := f5.kk kc4 (by decide)
        have F5 : Fw (XU R a (fun b => cc ≠ -1 ∧ b = A 4 cc)) v v5 := F4.trans (f5.mono (fun b k y => Or.inr (Or.inl y)))
        have lE : E.length ≤ 1 := by rw [eE]; exact if_len
        rw [sX1_plain_84, sX1_plain_85 (c5.kk k05 (by decide)), c5.ii k05 rfl, (f50 16 (by decide)).1, i164, sX1_plain_88, i_0]
        by_cases q : ou = true
        · rw [if_neg (fun y => (bI_0.mp y) q), sX1_plain_91, sX1_plain_92 (c5.kk k05 (by decide)), c5.rr k05 rfl, ru5.2.1, sX1_plain_95, sX1_plain_97, sX1_plain_98 (c5.kk k05 (by decide)), c5.ii k05 rfl, (f50 14 (by decide)).1, i144, sX1_plain_101, sX1_plain_102 (c5.kk ru5.2.2.1 (by decide)), i_m1, i_12]
          refine c_mi1 c5 ru5.2.2.1 ru5.2.2.2.2.2 ml5.1 (by rw [insA_len]; omega) (by omega) (by omega) (by omega) (fun h6 v6 c6 f6 ma => ?_)
          obtain ⟨y1, y2⟩ := mi ml5 f6 ma rm5
          rw [Kt_0]
          refine fin h6 v6 c6 (F5.trans (f6.mono (fun b k y => Or.inr (Or.inl y)))) (ptm k95 t5 f6) (by rw [(f6.ff (k := 6) (hK_lt (F5.kk ka (by decide)) (by decide)) (fun y => by omega)).2.2]; exact r65) (fun _ => ⟨by rw [(f6.ff (k := 4) (hK_lt kc5 (by decide)) (fun y => by omega)).1]; exact e45, f6.kk kc5 (by decide)⟩) ?_ (y2.le (by omega) (by omega))
          unfold mZt
          rw [if_neg e, if_pos q, insA_app, ← eE]
          exact y1
        · rw [if_pos (bI_0.mpr q)]
          refine fin h5 v5 c5 F5 t5 r65 (fun _ => ⟨e45, kc5⟩) ?_ (rm5.le (by omega) (by omega))
          unfold mZt
          rw [if_neg e, if_neg q, List.append_nil, ← eE]
          exact ml5
      rw [c4.rr kc4 rfl, r1, sX1_plain_63 (c4.kk kl4 (by decide)), v_size c4 kl4, Kt_v, sX1_plain_66, sX1_plain_67, i_1, len4]
      by_cases q : 1 < U 37 cc
      · rw [if_neg (by rw [iI_le (by omega) (by omega) (by omega) (by omega)]; omega), sX1_plain_70, sX1_plain_71 (c4.kk k04 (by decide)), c4.rr k04 rfl, ru4.2.1, sX1_plain_74, sX1_plain_76, sX1_plain_77 (c4.kk k04 (by decide)), c4.ii k04 rfl, i144, sX1_plain_80, sX1_plain_81 (c4.kk ru4.2.2.1 (by decide)), i_m1, i_6]
        refine c_mi1 c4 ru4.2.2.1 ru4.2.2.2.2.2 ml4.1 (by omega) (by omega) (by omega) (by omega) (fun h5 v5 c5 f5 ma => ?_)
        obtain ⟨y1, y2⟩ := mi ml4 f5 ma rm4
        rw [Kt_0]
        exact out h5 v5 [(6, (S 49 0, -1))] c5 f5 (by rw [if_pos q]) y1 (y2.le (by omega) (by omega))
      · rw [if_pos (by rw [iI_le (by omega) (by omega) (by omega) (by omega)]; omega)]
        exact out h4 v4 [] c4 Fw.refl (by rw [if_neg q]) ml4 (rm4.le (by omega) (by omega))
  · rw [Kt_x]
    refine bad h1 v1 _ c1 wg (fun V => ?_)
    obtain ⟨n1, n2, n55, n56, n48, n52, n47⟩ := nm_name si g1.2.2.1 n
    unfold tTs
    rw [if_pos n]
    exact doom_take (by rw [n52]; exact s52) n1 (by omega)
  · rw [Kt_x]
    refine bad h1 v1 _ c1 wg (fun V => ?_)
    unfold tTs
    rw [if_neg n]
    exact doom_fail s52 si
end STS
