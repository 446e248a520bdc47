/-! COMPONENT, 52: thrown(223) *-/
section TH2
variable {r a : Nat} {h : am_H} {R : Nat → Nat} {A : Nat → Int → Nat} {T : Nat → Nat} {w s p0 : Int} {v : vT} {S U : tSt} {o : Option Nat} {Q : am_O → am_H → Prop} {L : List tMi}
/-- the twin's tokens behind a throw or a set -/
def tTs (S : tSt) : tSt := if tIsN S = true then tTake (tName S) 59 else tFail S
theorem nm_name (si : SI S) (tk : TK S) (n : tIsN S = true) : SI (tName S) ∧ TK (tName S) ∧ tName S 55 = S 55 ∧ tName S 56 = S 56 ∧ tName S 48 = S 48 ∧ tName S 52 0 = S 52 0 ∧ S 47 0 ≤ tName S 47 0 := by
  have y := Tks_name si tk
  obtain ⟨_, _, f47, _⟩ := tName_g n
  refine ⟨y.1, y.2.1, y.2.2.2.1 55 (by decide) (by decide) (by decide) (by decide) (by decide) (by decide) (by decide), y.2.2.2.1 56 (by decide) (by decide) (by decide) (by decide) (by decide) (by decide) (by decide), y.2.2.2.1 48 (by decide) (by decide) (by decide) (by decide) (by decide) (by decide) (by decide), ?_, ?_⟩
  · rw [tName_e n, tAdv_52, up_n (by decide), up_n (by decide)]
  · rw [f47]
    exact (tAdv_47 si).1
theorem c_thrown (cr : CR h v) (md : MD R A T w s p0 v S U o) (ka : hK v.1 a = 32) (k5 : hR v.1 a 5 = none) (k6 : hR v.1 a 6 = none) (pp : p0 ≤ S 49 0) (ml : ML v (R 9) L) (hl : L.length ≤ 2700)
    (q1 : tIsN S = true → tName S 51 0 = 59 → tAdv (tName S) 51 0 ≠ -2 → ∀ h' v', CR h' v' → Fw (XT R a (fun b => ((pO U (S 50 0) (U 22 s)).1 ≠ -1 ∧ (pO U (S 50 0) (U 22 s)).2 = true) ∧ (b = R 13 ∨ b = R 14))) v v' → PT v' (R 0) (R 1) (R 2) (tAdv (tName S)) →
      hR v'.1 a 5 = optA (A 4) (pO U (S 50 0) (U 22 s)).1 → hR v'.1 a 6 = (if (pO U (S 50 0) (U 22 s)).1 = -1 then optA (A 0) (kO U w (S 50 0) (S 49 0)) else none) → ML v' (R 9) (insA L (if (pO U (S 50 0) (U 22 s)).1 = -1 ∧ kO U w (S 50 0) (S 49 0) = -1 then [(1, (S 49 0, -1))] else [])) →
      ((pO U (S 50 0) (U 22 s)).1 ≠ -1 ∧ (pO U (S 50 0) (U 22 s)).2 = true → vLs v' (R 13) = vLs v (R 13) ++ [some a] ∧ ∃ e, vLs v' (R 14) = vLs v (R 14) ++ [some e] ∧ isIg v' e (S 49 0)) →
      RM (R 9) v v' (20 * (tAdv (tName S) 47 0 - S 47 0) + 10) (200 * (tAdv (tName S) 47 0 - S 47 0) + 600) → Q (Sum.inl none) h')
    (q2 : ∀ h' v' p, CR h' v' → Fw (XT R a (fun b => ((pO U (S 50 0) (U 22 s)).1 ≠ -1 ∧ (pO U (S 50 0) (U 22 s)).2 = true) ∧ (b = R 13 ∨ b = R 14))) v v' → RM (R 9) v v' (20 * (S 48 0 - S 47 0) + 20) (200 * (S 48 0 - S 47 0) + 700) → hI v'.1 (R 2) 6 = iI p → vCp v' (R 9) ≤ 6000 → (∀ V, doom w (tTs S, V) p) → Q (Sum.inr (R 2)) h') : Cl (r + 1) 223 [vR (some (R 0)), vR (some a), vR o] h Q := by
  have md' := md
  obtain ⟨g, ⟨hP, pr, qv, w0⟩, ⟨d1, s52⟩, ar, hsA, e22, ch⟩ := md
  have g' := g
  obtain ⟨g1, g2, g3, g4, g5, g6, ⟨g7, g8, g9⟩, _, gc, gd, ge, gf, gg, gh, gj⟩ := g'
  have k0 := g1.w0.1
  have k2 := g1.w0.2.1
  have k9 := g.k9
  have si := g1.2.1
  have le := g1.le
  have s49 := si.2.1
  have n19 := hP.2.2.2.2.2.1
  obtain ⟨t8, t9, t10, t11, t12, t13, t14⟩ := g6.2.2.2.2.2.2.1
  obtain ⟨m1, m2, m3, m4, m5, m6, m7, m8, m9, ma, mb⟩ := g6.2.2.2.2.2.2.2.1
  obtain ⟨mc, md9, me, mf, mg, mh, mi, mj, mk, mm⟩ := g6.2.2.2.2.2.2.2.2
  have k13 := g6.2.2.2.2.1.2.1
  have k14 := g6.2.2.2.2.2.1.2.1
  have kt := g1.w0.2.2
  have na0 : a ≠ R 0 := fun e => by rw [← e, ka] at k0; exact absurd k0 (by decide)
  have na2 : a ≠ R 2 := fun e => by rw [← e, ka] at k2; exact absurd k2 (by decide)
  have na1 : a ≠ R 1 := fun e => by rw [← e, ka] at kt; exact absurd kt (by decide)
  have cpl := ml.2
  refine th_name cr md' ka k5 k6 (fun n z h1 v1 nm c1 f1 t1 na r15 i16 r5 r6 rm1 => ?_) (fun h1 v1 p c1 wg z1 z2 => ?_)
  · obtain ⟨n1, n2, n55, n56, n48, n52, n47⟩ := nm_name si g1.2.2.1 n
    obtain ⟨f53, f54, f47, f49, f50, f51⟩ := tName_g n
    have k01 := f1.kk k0 (by decide)
    have ka1 := f1.kk ka (by decide)
    have k91 := f1.kk k9 (by decide)
    have n48' : tName S 48 0 = S 48 0 := by rw [n48]
    have n47' : tName S 47 0 ≤ S 48 0 := by have := n1.1.2.1; omega
    have b47 := tAdv_47 n1
    have b48 : tAdv (tName S) 47 0 ≤ S 48 0 := by have := (SI_adv n1).1.2.1; rw [tAdv_55.2.2.1] at this; omega
    have x1 : ∀ b k, (Xr (R 0) (R 2) b k ∨ (b = a ∧ k = 5)) → (hK v.1 b = 2 ∧ (3 ≤ k ∧ k ≤ 6 ∨ 14 ≤ k ∧ k ≤ 16)) ∨ (hK v.1 b = 3 ∧ k = 6) ∨ (b = a ∧ k = 5) := fun b k y => by
      rcases y with (y | y) | y
      · exact Or.inl ⟨by rw [y.1]; exact k0, y.2⟩
      · exact Or.inr (Or.inl ⟨by rw [y.1]; exact k2, y.2⟩)
      · exact Or.inr (Or.inr y)
    have ml1 : ML v1 (R 9) L := ML_fw f1 ml (fun y => by have := x1 _ _ y; omega) (fun b k y hk => by have := x1 _ _ y; omega)
    have ru1 : RUn v1 (R 0) (R 3) (R 5) (R 9) := RUn_fw f1 g2 (fun y => by have := x1 _ _ y; omega) (fun k hk y => by
      have kk := g2.2.2.1
      rcases x1 _ _ y with z | z | z
      · omega
      · omega
      · rw [z.1, ka] at kk
        exact absurd kk (by decide))
    have F1 : Fw (XT R a (fun b => ((pO U (S 50 0) (U 22 s)).1 ≠ -1 ∧ (pO U (S 50 0) (U 22 s)).2 = true) ∧ (b = R 13 ∨ b = R 14))) v v1 := f1.mono (fun b k y => by
      rcases y with y | y
      · exact Or.inl y
      · exact Or.inr (Or.inr (Or.inl ⟨y.1, Or.inl y.2⟩)))
    have i14 : hI v1.1 (R 0) 14 = iI (S 49 0) := by rw [na.2.2.2, f54]
    -- what follows behind the meaning of the name
    have fin : ∀ h2 v2, CR h2 v2 → Fw (XT R a (fun b => ((pO U (S 50 0) (U 22 s)).1 ≠ -1 ∧ (pO U (S 50 0) (U 22 s)).2 = true) ∧ (b = R 13 ∨ b = R 14))) v v2 → PT v2 (R 0) (R 1) (R 2) (tName S) → hR v2.1 a 5 = optA (A 4) (pO U (S 50 0) (U 22 s)).1 → hR v2.1 a 6 = (if (pO U (S 50 0) (U 22 s)).1 = -1 then optA (A 0) (kO U w (S 50 0) (S 49 0)) else none) → ML v2 (R 9) (insA L (if (pO U (S 50 0) (U 22 s)).1 = -1 ∧ kO U w (S 50 0) (S 49 0) = -1 then [(1, (S 49 0, -1))] else [])) →
        ((pO U (S 50 0) (U 22 s)).1 ≠ -1 ∧ (pO U (S 50 0) (U 22 s)).2 = true → vLs v2 (R 13) = vLs v (R 13) ++ [some a] ∧ ∃ e, vLs v2 (R 14) = vLs v (R 14) ++ [some e] ∧ isIg v2 e (S 49 0)) → RM (R 9) v v2 (20 * (tName S 47 0 - S 47 0) + 10) (200 * (tName S 47 0 - S 47 0) + 600) →
        Rn (r + 1) 223 73 [some (vR (some (R 0))), some (vR (some a)), some (vR o), some (vR (some nm))] [] h2 Q := by
      intro h2 v2 c2 F2 t2 e5 e6 ml2 ls2 rm2
      have k02 := F2.kk k0 (by decide)
      have ka2 := F2.kk ka (by decide)
      have k92 := F2.kk k9 (by decide)
      have cp2 := ml2.2
      rw [insA_len] at cp2
      have il : (if (pO U (S 50 0) (U 22 s)).1 = -1 ∧ kO U w (S 50 0) (S 49 0) = -1 then [((1 : Int), (S 49 0, (-1 : Int)))] else []).length ≤ 1 := if_len
      have xq : ∀ b k, Xq (R 0) (R 2) b k → (b = R 0 ∨ b = R 2) ∧ k ≠ 99 := fun b k y => by
        rcases y with y | y
        · exact ⟨Or.inl y.1, by omega⟩
        · exact ⟨Or.inr y.1, by omega⟩
      have wgf : ∀ h3 v3 p, CR h3 v3 → Wg (R 0) (R 2) 0 0 v2 v3 p → (∀ V, doom w (tTs S, V) p) → Q (Sum.inr (R 2)) h3 := fun h3 v3 p c3 wg dm => by
        obtain ⟨w1, w2, w3, w4, w5⟩ := wg
        have cp3 : vCp v3 (R 9) = vCp v2 (R 9) := (w1.cc (hK_lt k92 (by decide)) (fun y => (xq _ _ y).2 rfl)).2.2.1
        refine q2 h3 v3 p c3 (F2.trans (w1.mono (fun b k y => ?_))) ((rm2.trans ⟨w1.1, ?_, w4, ?_, ?_⟩ : RM (R 9) v v3 (20 * (tName S 47 0 - S 47 0) + 10 + 0) (200 * (tName S 47 0 - S 47 0) + 600 + 0)).le (by omega) (by omega)) w2 (by rw [cp3]; omega) dm
        · rcases y with y | y
          · exact Or.inl (Or.inl ⟨y.1, by omega⟩)
          · exact Or.inl (Or.inr y)
        · omega
        · rw [cp3]
          omega
        · rw [cp3]
          exact Nat.le_refl _
      rw [sX1_thrown_73, sX1_thrown_74, sX1_thrown_76 (c2.kk k02 (by decide)), i_59]
      refine t_want c2 t2 (by omega) (fun x51 z2 h3 v3 c3 f3 t3 n3 s03 s3 _ => ?_) (fun x51 z2 h3 v3 c3 wg => ?_) (fun x51 h3 v3 c3 wg => ?_)
      · have cp3 : vCp v3 (R 9) = vCp v2 (R 9) := (f3.cc (hK_lt k92 (by decide)) (fun y => (xq _ _ y).2 rfl)).2.2.1
        have fa3 := fun j => f3.ff (k := j) (hK_lt ka2 (by decide)) (fun y => by rcases (xq _ _ y).1 with z | z; exact na0 z; exact na2 z)
        rw [Kt_0, sX1_thrown_79]
        refine q1 n x51 z2 h3 v3 c3 (F2.trans (f3.mono (fun b k y => ?_))) t3 (by rw [(fa3 5).2.2]; exact e5) (by rw [(fa3 6).2.2]; exact e6) (ML_fw f3 ml2 (fun y => (xq _ _ y).2 rfl) (fun b k y hk => ?_)) (fun q => ?_) ((rm2.trans ⟨f3.1, n3, s03, ?_, ?_⟩ : RM (R 9) v v3 (20 * (tName S 47 0 - S 47 0) + 10 + 20 * (tAdv (tName S) 47 0 - tName S 47 0)) (200 * (tName S 47 0 - S 47 0) + 600 + 200 * (tAdv (tName S) 47 0 - tName S 47 0))).le (by omega) (by omega))
        · rcases y with y | y
          · exact Or.inl (Or.inl ⟨y.1, by omega⟩)
          · exact Or.inl (Or.inr y)
        · rcases (xq _ _ y).1 with z | z
          · rw [z, k02]; decide
          · rw [z, F2.kk k2 (by decide)]; decide
        · obtain ⟨y1, e, y2, y3, y4⟩ := ls2 q
          refine ⟨by rw [(f3.cc (hK_lt (F2.kk k13 (by decide)) (by decide)) (fun y => (xq _ _ y).2 rfl)).1]; exact y1, e, by rw [(f3.cc (hK_lt (F2.kk k14 (by decide)) (by decide)) (fun y => (xq _ _ y).2 rfl)).1]; exact y2, ?_, ?_⟩
          · rcases y3 with y | y
            · exact Or.inl (f3.kk y (by decide))
            · exact Or.inr (f3.kk y (by decide))
          · have lt : e < hN v2.1 := by rcases y3 with y | y <;> exact hK_lt y (by decide)
            rw [(f3.ff (k := 0) lt (fun y => by rcases y with y | y <;> omega)).1]
            exact y4
        · rw [cp3]
          omega
        · rw [cp3]
          exact Nat.le_refl _
      · rw [Kt_x]
        refine wgf h3 v3 _ c3 wg (fun V => ?_)
        unfold tTs tTake
        rw [if_pos n, if_pos x51]
        exact doom_bad (by rw [tAdv_52, n52]; exact s52) (SI_adv n1) (TK_adv n1.1) z2
      · rw [Kt_x]
        refine wgf h3 v3 _ c3 wg (fun V => ?_)
        unfold tTs
        rw [if_pos n]
        exact doom_take (by rw [n52]; exact s52) n1 x51
    rw [sX1_thrown_19, sX1_thrown_20 (c1.kk k01 (by decide)), c1.rr k01 rfl, r15, sX1_thrown_23]
    by_cases e : (pO U (S 50 0) (U 22 s)).1 = -1
    · have km1 := KMp_fw f1 g3 (fun y => by have := x1 _ _ y; omega)
      have tx0 : vTx v1 nm ≠ [] := fun q => by
        have := na.2.1
        rw [q, f53] at this
        exact (tIsN_iff.mp n).1 this.symm
      have mp : vMp v1 (R 5) (vTx v1 nm) = optA (A 0) (kO U w (S 50 0) (S 49 0)) := by
        have := km1.1 (vTx v1 nm) na.2.2.1 tx0 (S 49 0) pp
        rw [na.2.1, f53] at this
        exact this
      have kk : ∀ z, vMp v1 (R 5) (vTx v1 nm) = some z → kO U w (S 50 0) (S 49 0) ≠ -1 ∧ z = A 0 (kO U w (S 50 0) (S 49 0)) := fun z hz => by
        rw [mp] at hz
        unfold optA at hz
        split at hz
        · exact absurd hz (by simp)
        · exact ⟨by assumption, (Option.some.inj hz).symm⟩
      rw [e, optA_n, if_neg (fun q => q rfl), sX1_thrown_26, sX1_thrown_27, sX1_thrown_28, sX1_thrown_29, sX1_thrown_30 (c1.kk k01 (by decide)), c1.ii k01 rfl, i14, sX1_thrown_33 (c1.kk k01 (by decide))]
      -- the kind is set
      have put : ∀ h2 v2 z, CR h2 v2 → Fw (fun b k => b = R 9 ∧ k = 99) v1 v2 → z = optA (A 0) (kO U w (S 50 0) (S 49 0)) → ML v2 (R 9) (insA L (if (pO U (S 50 0) (U 22 s)).1 = -1 ∧ kO U w (S 50 0) (S 49 0) = -1 then [(1, (S 49 0, -1))] else [])) → RM (R 9) v1 v2 2 3 → Rn (r + 1) 223 36 [some (vR (some (R 0))), some (vR (some a)), some (vR o), some (vR (some nm))] [vR z, vR (some a)] h2 Q := by
        intro h2 v2 z c2 f2 ez ml2 rm2
        have ka2 := f2.kk ka1 (by decide)
        have fa2 := fun j (hj : j ≠ 99) => f2.ff (k := j) (hK_lt ka1 (by decide)) (fun y => hj y.2)
        rw [sX1_thrown_36 (c2.kk ka2 (by decide)), sX1_thrown_39]
        have c3 := CR_pR (k := 6) (z := z) c2 ka2 rfl
        have f3 : Fw (fun b k => (b = R 9 ∧ k = 99) ∨ (b = a ∧ k = 6)) v1 (vpR v2 a 6 z) := (f2.mono (fun b k y => Or.inl y)).pR (Or.inr (Or.inr ⟨rfl, rfl⟩))
        have k91' := k91
        refine fin _ _ c3 (F1.trans (f3.mono (fun b k y => ?_))) (PT_fw f3 t1 (fun k hk y => ?_) (fun k y => ?_) (fun b y => ?_)) ?_ ?_ ?_ (fun q => absurd e q.1) ((rm1.trans rm2).le (by omega) (by omega))
        · rcases y with y | y
          · exact Or.inr (Or.inl y)
          · exact Or.inr (Or.inr (Or.inl ⟨y.1, Or.inr y.2⟩))
        · rcases y with y | y
          · omega
          · exact na0 y.1.symm
        · rcases y with y | y
          · have := t1.w0.2.2
            rw [y.1, k91] at this
            exact absurd this (by decide)
          · exact na1 y.1.symm
        · rcases y with y | y
          · rw [y.1, k91]; decide
          · omega
        · rw [vpR_1, hR_putR, if_neg (fun y => absurd y.2 (by decide)), (fa2 5 (by decide)).2.2]
          exact r5
        · rw [vpR_1, hR_putR, if_pos ⟨rfl, rfl⟩, if_pos e]
          exact ez
        · exact ML_fw (X := fun b k => b = a ∧ k = 6) (Fw.refl.pR (Or.inr ⟨rfl, rfl⟩)) ml2 (fun y => by omega) (fun b k y hk => by omega)
      refine c_known c1 ru1 ml1.1 (by omega) na.1 na.2.2.1.1 (by omega) (fun z hz => ?_) (fun h2 z c2 hz => ?_) (fun h2 v2 c2 hz f2 ma2 => ?_)
      · obtain ⟨z1, z2⟩ := kk z hz
        rw [z2]
        have kb := kO_b (U := U) (w := w) (x := S 50 0) (a := S 49 0) g3.2.2.2
        exact km1.2.1 _ (by omega) kb.2
      · obtain ⟨z1, z2⟩ := kk z hz
        rw [Kt_v]
        refine put h2 v1 _ c2 Fw.refl (by rw [z2, optA_s z1]) (by rw [if_neg (fun q => z1 q.2)]; exact ml1) ⟨Nat.le_refl _, by omega, Nat.le_refl _, by omega, Nat.le_refl _⟩
      · have z1 : kO U w (S 50 0) (S 49 0) = -1 := by
          rw [mp] at hz
          unfold optA at hz
          split at hz
          · assumption
          · exact absurd hz (by simp)
        obtain ⟨y1, y2⟩ := ML_add ml1 ma2 f2.1
        rw [Kt_v]
        exact put h2 v2 _ c2 f2 (by rw [z1, optA_n]) (by rw [if_pos ⟨e, z1⟩]; exact y1) y2
    · have r6' : hR v1.1 a 6 = (if (pO U (S 50 0) (U 22 s)).1 = -1 then optA (A 0) (kO U w (S 50 0) (S 49 0)) else none) := by rw [if_neg e]; exact r6
      have ml1' : ML v1 (R 9) (insA L (if (pO U (S 50 0) (U 22 s)).1 = -1 ∧ kO U w (S 50 0) (S 49 0) = -1 then [(1, (S 49 0, -1))] else [])) := by rw [if_neg (fun q => e q.1)]; exact ml1
      rw [optA_s e, if_pos (by simp), sX1_thrown_42, sX1_thrown_43 (c1.kk k01 (by decide)), c1.ii k01 rfl, i16 e, sX1_thrown_46, i_0]
      by_cases ou : (pO U (S 50 0) (U 22 s)).2 = true
      · have l13 : (vLs v (R 13)).length ≤ 120 := by rw [g6.2.2.2.2.1.2.2, List.length_map]; exact stL_len n19
        have l14 : (vLs v (R 14)).length ≤ 120 := by rw [g6.2.2.2.2.2.1.2.2.1, List.length_map]; exact stL_len n19
        have k131 := f1.kk k13 (by decide)
        have k141 := f1.kk k14 (by decide)
        have ls13 : vLs v1 (R 13) = vLs v (R 13) := (f1.cc (hK_lt k13 (by decide)) (fun y => by have := x1 _ _ y; omega)).1
        have ls14 : vLs v1 (R 14) = vLs v (R 14) := (f1.cc (hK_lt k14 (by decide)) (fun y => by have := x1 _ _ y; omega)).1
        have r13 : hR v1.1 (R 0) 13 = some (R 13) := by rw [(f1.ff (k := 13) (hK_lt k0 (by decide)) (fun y => by have := x1 _ _ y; omega)).2.2]; exact g6.2.2.2.2.1.1
        have r17 : hR v1.1 (R 0) 17 = some (R 14) := by rw [(f1.ff (k := 17) (hK_lt k0 (by decide)) (fun y => by have := x1 _ _ y; omega)).2.2]; exact g6.2.2.2.2.2.1.1
        rw [if_neg (fun q => (bI_0.mp q) ou), sX1_thrown_49, sX1_thrown_50 (c1.kk k01 (by decide)), c1.rr k01 rfl, r13, sX1_thrown_53, sX1_thrown_54 (c1.kk k131 (by decide))]
        refine v_add c1 k131 (z := some a) ⟨by rw [ka1]; decide, by rw [ka1]; decide⟩ (by rw [ls13]; omega) (fun h2 n' s' c' c2 gw => ?_)
        obtain ⟨w1, w2, w3, w4, w5, w6, w7, w8⟩ := grw_b gw (c1.cp k131)
        rw [ls13] at w7
        have f2 : Fw (fun b k => b = R 13 ∧ k = 99) v1 (vsL (vbm v1 n' s') (R 13) (vLs v1 (R 13) ++ [some a]) c') := (Fw.refl.bm w1).sL (Or.inr ⟨rfl, rfl⟩)
        have ls2 : vLs (vsL (vbm v1 n' s') (R 13) (vLs v1 (R 13) ++ [some a]) c') (R 13) = vLs v (R 13) ++ [some a] := by rw [vLs_sL, if_pos rfl, ls13]
        have n2' : hN (vsL (vbm v1 n' s') (R 13) (vLs v1 (R 13) ++ [some a]) c').1 = n' := rfl
        have s2' : hS (vsL (vbm v1 n' s') (R 13) (vLs v1 (R 13) ++ [some a]) c').1 = s' := rfl
        generalize (vsL (vbm v1 n' s') (R 13) (vLs v1 (R 13) ++ [some a]) c') = v2 at *
        have k02 := f2.kk k01 (by decide)
        have k142 := f2.kk k141 (by decide)
        have ls142 : vLs v2 (R 14) = vLs v (R 14) := by rw [(f2.cc (hK_lt k141 (by decide)) (fun y => mm y.1.symm)).1, ls14]
        have f0 := fun j (hj : j ≠ 99) => f2.ff (k := j) (hK_lt k01 (by decide)) (fun y => hj y.2)
        rw [Kt_v, sX1_thrown_57, sX1_thrown_58, sX1_thrown_59 (c2.kk k02 (by decide)), c2.rr k02 rfl, (f0 17 (by decide)).2.2, r17, sX1_thrown_62, sX1_thrown_63 (c2.kk k02 (by decide)), c2.ii k02 rfl, (f0 14 (by decide)).1, i14, sX1_thrown_66]
        refine vi_add (l := R 14) (K3 := Kt (r + 1) 223 72 [some (vR (some (R 0))), some (vR (some a)), some (vR o), some (vR (some nm))] [] Q) c2 k142 (by rw [ls142]; omega) (by omega) (by omega) (fun b h3 y ⟨v3, c3, f3⟩ => ?_) (fun h3 v3 e3 c3 f3 l3 ig3 n3 s03 s3 => ?_)
        · rw [Kt_v, sX1_thrown_69 (c3.kk (f3.kk k142 (by decide)) (by decide))]
          exact y
        · rw [ls142] at l3 s3
          rw [Kt_v, sX1_thrown_72]
          have f23 : Fw (fun b k => (b = R 13 ∨ b = R 14) ∧ k = 99) v1 v3 := (f2.mono (fun b k y => ⟨Or.inl y.1, y.2⟩)).trans (f3.mono (fun b k y => ⟨Or.inr y.1, y.2⟩))
          have kl : ∀ b k, (b = R 13 ∨ b = R 14) ∧ k = 99 → hK v1.1 b = 4 := fun b k y => by rcases y.1 with z | z <;> rw [z] <;> assumption
          have fa3 := fun j (hj : j ≠ 99) => f23.ff (k := j) (hK_lt ka1 (by decide)) (fun y => hj y.2)
          have n913 : R 9 ≠ R 13 := ma
          have n914 : R 9 ≠ R 14 := mb
          have cp3 : vCp v3 (R 9) = vCp v1 (R 9) := (f23.cc (hK_lt k91 (by decide)) (fun y => by rcases y.1 with z | z; exact n913 z; exact n914 z)).2.2.1
          refine fin _ _ c3 (F1.trans (f23.mono (fun b k y => Or.inr (Or.inr (Or.inr ⟨⟨⟨e, ou⟩, y.1⟩, y.2⟩))))) (PT_fw f23 t1 (fun k hk y => by omega) (fun k y => ?_) (fun b y => by rw [kl b 99 y]; decide)) (by rw [(fa3 5 (by decide)).2.2]; exact r5) (by rw [(fa3 6 (by decide)).2.2]; exact r6') (ML_fw f23 ml1' (fun y => by rcases y.1 with z | z; exact n913 z; exact n914 z) (fun b k y hk => by omega)) (fun _ => ⟨?_, e3, l3, ig3⟩) ((rm1.trans ⟨f23.1, ?_, ?_, ?_, ?_⟩ : RM (R 9) v v3 (20 * (tName S 47 0 - S 47 0) + 4 + 3) (200 * (tName S 47 0 - S 47 0) + 40 + 505)).le (by omega) (by omega))
          · have := t1.w0.2.2
            rw [kl _ _ y] at this
            exact absurd this (by decide)
          · rw [(f3.cc (hK_lt (f2.kk k131 (by decide)) (by decide)) (fun y => mm y.1)).1]
            exact ls2
          · omega
          · omega
          · rw [cp3]
            omega
          · rw [cp3]
            exact Nat.le_refl _
      · rw [if_pos (bI_0.mpr ou)]
        exact fin h1 v1 c1 F1 t1 r5 r6' ml1' (fun q => absurd q.2 ou) (rm1.le (by omega) (by omega))
  · obtain ⟨w1, w2, w3, w4, w5⟩ := wg
    have cp1 : vCp v1 (R 9) = vCp v (R 9) := (w1.cc (hK_lt k9 (by decide)) (fun y => by rcases y with y | y <;> omega)).2.2.1
    refine q2 h1 v1 p c1 (w1.mono (fun b k y => ?_)) ⟨w1.1, by omega, w4, by rw [cp1]; omega, by rw [cp1]; exact Nat.le_refl _⟩ w2 (by rw [cp1]; omega) (fun V => ?_)
    · rcases y with y | y
      · exact Or.inl (Or.inl ⟨y.1, by omega⟩)
      · exact Or.inl (Or.inr y)
    · unfold tTs
      by_cases n : tIsN S = true
      · obtain ⟨n1, n2, n55, n56, n48, n52, n47⟩ := nm_name si g1.2.2.1 n
        rw [if_pos n, (z1 n).2]
        exact doom_take (by rw [n52]; exact s52) n1 (by have := (z1 n).1; omega)
      · rw [if_neg n, z2 n]
        exact doom_fail s52 si
end TH2
