/-! COMPONENT, 51: throw *-/
/-- what a throw (or a set) may change: tokens, mistakes, the statement a; E: lists that grow -/
def XT (R : Nat → Nat) (a : Nat) (E : Nat → Prop) (b k : Nat) : Prop := Xr (R 0) (R 2) b k ∨ (b = R 9 ∧ k = 99) ∨ (b = a ∧ (k = 5 ∨ k = 6)) ∨ (E b ∧ k = 99)
section THW
variable {r a l : Nat} {h : am_H} {R : Nat → Nat} {A : Nat → Int → Nat} {T : Nat → Nat} {w s p0 x : Int} {v : vT} {S U : tSt} {o : Option Nat} {Q K2 K3 : am_O → am_H → Prop} {L : List tMi}
/-- a number is put into a list -/
theorem vi_add (c : CR h v) (kl : hK v.1 l = 4) (hl : (vLs v l).length ≤ 15000) (x1 : -2147483648 ≤ x) (x2 : x < 2147483648) (s1 : ∀ b h1, Cl r 119 [vR (some l), vR (some b)] h1 K3 → (∃ v1, CR h1 v1 ∧ Fw (fun _ _ => False) v v1) → K2 (Sum.inl (some (vR (some b)))) h1)
    (q : ∀ h' v' e, CR h' v' → Fw (fun b k => b = l ∧ k = 99) v v' → vLs v' l = vLs v l ++ [some e] → isIg v' e x → hN v'.1 ≤ hN v.1 + 2 → hS v.1 ≤ hS v'.1 → hS v'.1 ≤ hS v.1 + 2 * (vLs v l).length + 11 → K3 (Sum.inl (some (vI (iI 1)))) h') : Cl r 281 [vI (iI x)] h K2 := by
  have key : ∀ h1 v1 b, CR h1 v1 → Fw (fun _ _ => False) v v1 → isIg v1 b x → hN v1.1 ≤ hN v.1 + 1 → hS v.1 ≤ hS v1.1 → hS v1.1 ≤ hS v.1 + 1 → Cl r 119 [vR (some l), vR (some b)] h1 K3 := fun h1 v1 b c1 f1 ig n1 s0 s1' => by
    have kl1 := f1.kk kl (by decide)
    have ls1 : vLs v1 l = vLs v l := (f1.cc (hK_lt kl (by decide)) (fun y => y)).1
    refine v_add c1 kl1 (z := some b) ⟨by rcases ig.1 with y | y <;> rw [y] <;> decide, by rcases ig.1 with y | y <;> rw [y] <;> decide⟩ (by rw [ls1]; exact hl) (fun h2 n' s' c' c2 g => ?_)
    obtain ⟨g1, g2, g3, g4, g5, g6, g7, g8⟩ := grw_b g (c1.cp kl1)
    rw [ls1] at g7
    have f2 : Fw (fun b k => b = l ∧ k = 99) v1 (vsL (vbm v1 n' s') l (vLs v1 l ++ [some b]) c') := (Fw.refl.bm g1).sL (Or.inr ⟨rfl, rfl⟩)
    refine q h2 _ b c2 ((f1.mono (fun _ _ y => y.elim)).trans f2) (by rw [vLs_sL, if_pos rfl, ls1]) ?_ (by show n' ≤ _; omega) (by show _ ≤ s'; omega) (by show s' ≤ _; omega)
    obtain ⟨i1, i2⟩ := ig
    have nb : b ≠ l := fun e => by rw [e, kl1] at i1; omega
    have lt : b < hN v1.1 := by rcases i1 with y | y <;> exact hK_lt y (by decide)
    refine ⟨?_, ?_⟩
    · rcases i1 with y | y
      · exact Or.inl (f2.kk y (by decide))
      · exact Or.inr (f2.kk y (by decide))
    · rw [(f2.ff (k := 0) lt (fun y => nb y.1)).1]
      exact i2
  refine v_valueOf c x1 x2 (fun b ig => ?_) (fun h' c' => ?_)
  · exact s1 b h (key h v b c Fw.refl ig (by omega) (Nat.le_refl _) (by omega)) ⟨v, c, Fw.refl⟩
  · have f1 : Fw (fun _ _ => False) v (vpI (vnw v 8 1) (hN v.1) 0 (iI x)) := Fw.refl.nw.pI (Or.inl (Nat.le_refl _))
    refine s1 _ h' (key h' _ _ c' f1 ⟨Or.inl nw_k, ?_⟩ (Nat.le_refl _) ?_ (Nat.le_refl _)) ⟨_, c', f1⟩
    · rw [vpI_1, hI_putI, if_pos ⟨rfl, rfl⟩]
    · show hS v.1 ≤ hS v.1 + 1
      omega
/-- the name behind throw or set, and what it stands for (thrown, pc 0-19) -/
theorem th_name (cr : CR h v) (md : MD R A T w s p0 v S U o) (ka : hK v.1 a = 32) (k5 : hR v.1 a 5 = none) (k6 : hR v.1 a 6 = none)
    (q1 : tIsN S = true → tName S 51 0 ≠ -2 → ∀ h' v' nm, CR h' v' → Fw (fun b k => Xr (R 0) (R 2) b k ∨ (b = a ∧ k = 5)) v v' → PT v' (R 0) (R 1) (R 2) (tName S) → NA v' (R 0) (tName S) nm → hR v'.1 (R 0) 15 = optA (A 4) (pO U (S 50 0) (U 22 s)).1 → ((pO U (S 50 0) (U 22 s)).1 ≠ -1 → hI v'.1 (R 0) 16 = bI ((pO U (S 50 0) (U 22 s)).2 = true)) → hR v'.1 a 5 = optA (A 4) (pO U (S 50 0) (U 22 s)).1 → hR v'.1 a 6 = none → RM (R 9) v v' (20 * (tName S 47 0 - S 47 0) + 4) (200 * (tName S 47 0 - S 47 0) + 40) →
      Rn r 223 19 [some (vR (some (R 0))), some (vR (some a)), some (vR o), some (vR (some nm))] [] h' Q)
    (q2 : ∀ h' v' p, CR h' v' → Wg (R 0) (R 2) 4 40 v v' p → (tIsN S = true → tName S 51 0 = -2 ∧ p = tName S 49 0) → (¬ tIsN S = true → p = S 49 0) → Q (Sum.inr (R 2)) h') : Cl r 223 [vR (some (R 0)), vR (some a), vR o] h Q := by
  obtain ⟨g, ⟨hP, pr, qv, w0⟩, ⟨d1, s52⟩, ar, hsA, e22, ch⟩ := md
  have k0 := g.1.w0.1
  have k2 := g.1.w0.2.1
  have k9 := g.k9
  have na0 : a ≠ R 0 := fun e => by rw [← e, ka] at k0; exact absurd k0 (by decide)
  have na2 : a ≠ R 2 := fun e => by rw [← e, ka] at k2; exact absurd k2 (by decide)
  rw [eX1_thrown, sX1_thrown_0, sX1_thrown_1 (cr.kk k0 (by decide))]
  refine t_name cr g.1 (fun n z h1 v1 nm c1 f1 t1 na n1 s0 s1 => ?_) (fun n z h1 v1 c1 wg => ?_) (fun n h1 v1 c1 wg => ?_)
  · obtain ⟨f53, f54, f47, f49, f50, f51⟩ := tName_g n
    have k01 := f1.kk k0 (by decide)
    have ka1 := f1.kk ka (by decide)
    have ar1 := AR_q f1 g ar
    have fa1 := fun j => f1.ff (k := j) (hK_lt ka (by decide)) (fun y => by rcases y with y | y; exact na0 y.1; exact na2 y.1)
    rw [Kt_v, sX1_thrown_4, sX1_thrown_5, sX1_thrown_6, sX1_thrown_7, sX1_thrown_8 (c1.kk k01 (by decide))]
    refine c_look na.1 na.2.2.1.2 (by rw [na.2.1, f53]) c1 k01 ar1 (fun h2 v2 c2 f2 r15 i16 n2 s2 => ?_)
    have k02 := f2.kk k01 (by decide)
    have ka2 := f2.kk ka1 (by decide)
    have fa2 := fun j => f2.ff (k := j) (hK_lt ka1 (by decide)) (fun y => na0 y.1)
    rw [Kt_0, sX1_thrown_11, sX1_thrown_12, sX1_thrown_13 (c2.kk k02 (by decide)), c2.rr k02 rfl, r15, sX1_thrown_16 (c2.kk ka2 (by decide))]
    have c3 := CR_pR (k := 5) (z := optA (A 4) (pO U (S 50 0) (U 22 s)).1) c2 ka2 rfl
    have F1 : Fw (fun b k => Xr (R 0) (R 2) b k ∨ (b = a ∧ k = 5)) v v1 := f1.mono (fun b k y => by
      rcases y with y | y
      · exact Or.inl (Or.inl ⟨y.1, by omega⟩)
      · exact Or.inl (Or.inr y))
    have F2 : Fw (fun b k => Xr (R 0) (R 2) b k ∨ (b = a ∧ k = 5)) v v2 := F1.trans (f2.mono (fun b k y => Or.inl (Or.inl ⟨y.1, by omega⟩)))
    have F3 : Fw (fun b k => Xr (R 0) (R 2) b k ∨ (b = a ∧ k = 5)) v (vpR v2 a 5 (optA (A 4) (pO U (S 50 0) (U 22 s)).1)) := F2.pR (Or.inr (Or.inr ⟨rfl, rfl⟩))
    have f23 : Fw (fun b k => (b = R 0 ∧ (k = 15 ∨ k = 16)) ∨ (b = a ∧ k = 5)) v1 (vpR v2 a 5 (optA (A 4) (pO U (S 50 0) (U 22 s)).1)) := (f2.mono (fun b k y => Or.inl y)).pR (Or.inr (Or.inr ⟨rfl, rfl⟩))
    have kt1 := t1.w0.2.2
    have t3 : PT (vpR v2 a 5 (optA (A 4) (pO U (S 50 0) (U 22 s)).1)) (R 0) (R 1) (R 2) (tName S) := PT_fw f23 t1 (fun k hk y => by
      rcases y with y | y
      · omega
      · exact na0 y.1.symm) (fun k y => by
      rcases y with y | y
      · rw [y.1, k01] at kt1
        exact absurd kt1 (by decide)
      · rw [y.1, ka1] at kt1
        exact absurd kt1 (by decide)) (fun b y => by omega)
    have na3 : NA (vpR v2 a 5 (optA (A 4) (pO U (S 50 0) (U 22 s)).1)) (R 0) (tName S) nm := by
      obtain ⟨y1, y2, y3, y4⟩ := na
      have tx : vTx (vpR v2 a 5 (optA (A 4) (pO U (S 50 0) (U 22 s)).1)) nm = vTx v1 nm := (f23.cc (hK_lt y1 (by decide)) (fun y => by omega)).2.2.2
      refine ⟨f23.kk y1 (by decide), by rw [tx]; exact y2, by rw [tx]; exact y3, ?_⟩
      rw [(f23.ff (k := 14) (hK_lt k01 (by decide)) (fun y => by
        rcases y with y | y
        · omega
        · omega)).1]
      exact y4
    have cp : vCp (vpR v2 a 5 (optA (A 4) (pO U (S 50 0) (U 22 s)).1)) (R 9) = vCp v (R 9) := by
      show vCp v2 (R 9) = _
      rw [(f2.cc (hK_lt (f1.kk k9 (by decide)) (by decide)) (fun y => by omega)).2.2.1, (f1.cc (hK_lt k9 (by decide)) (fun y => by rcases y with y | y <;> omega)).2.2.1]
    refine q1 n z _ _ nm c3 F3 t3 na3 ?_ (fun q => ?_) ?_ ?_ ⟨F3.1, ?_, ?_, ?_, by rw [cp]; exact Nat.le_refl _⟩
    · rw [vpR_1, hR_putR, if_neg (fun y => na0 y.1.symm)]
      exact r15
    · rw [vpR_1, hI_putR]
      exact i16 q
    · rw [vpR_1, hR_putR, if_pos ⟨rfl, rfl⟩]
    · rw [vpR_1, hR_putR, if_neg (fun y => absurd y.2 (by decide)), (fa2 6).2.2, (fa1 6).2.2]
      exact k6
    · show (hN v2.1 : Int) ≤ _
      omega
    · show hS v.1 ≤ hS v2.1
      omega
    · rw [cp]
      show (hS v2.1 : Int) + _ ≤ _
      omega
  · rw [Kt_x]
    exact q2 h1 v1 _ c1 wg (fun _ => ⟨z, rfl⟩) (fun y => absurd n y)
  · rw [Kt_x]
    exact q2 h1 v1 _ c1 wg (fun y => absurd y n) (fun _ => rfl)
end THW
