/-! COMPONENT, 6: kinds above, variable *-/
section BLS
variable {U : tSt} {w a b c k q s : Int}
theorem tBel_fu (qw : QW w U) (b : Int) : ∀ (d e : Nat) (k : Int), -1 ≤ k → k < U 3 w → k + 1 < d → k + 1 < e → tBel U w b d k = tBel U w b e k := by
  intro d
  induction d with
  | zero => intro e k h0 h1 h2; omega
  | succ d ih =>
    intro e k h0 h1 h2 h3
    cases e with
    | zero => omega
    | succ e =>
      rw [tBel, tBel]
      by_cases p : k = -1
      · rw [if_pos p, if_pos p]
      · rw [if_neg p, if_neg p]
        have := par_b qw (k := k) (by omega) h1
        rw [ih e (par U w k) (by omega) (by omega) (by omega) (by omega)]
theorem bel_eq (qw : QW w U) (h0 : 0 ≤ a) (h1 : a < U 3 w) : bel U w a b = true ↔ a = b ∨ (par U w a ≠ -1 ∧ bel U w (par U w a) b = true) := by
  have pb := par_b qw h0 h1
  unfold bel
  rw [show (a + 2).toNat = (a + 1).toNat + 1 by omega, tBel, if_neg (by omega)]
  by_cases p : a = b
  · rw [if_pos p]
    exact ⟨fun _ => Or.inl p, fun _ => rfl⟩
  · rw [if_neg p]
    by_cases z : par U w a = -1
    · rw [z, show (a + 1).toNat = a.toNat + 1 by omega, tBel, if_pos rfl]
      exact ⟨fun e => absurd e (by decide), fun e => e.elim (fun x => absurd x p) (fun x => absurd rfl x.1)⟩
    · rw [tBel_fu qw b (a + 1).toNat (par U w a + 2).toNat (par U w a) pb.1 (by omega) (by omega) (by omega)]
      exact ⟨fun e => Or.inr ⟨z, e⟩, fun e => e.elim (fun x => absurd x p) (fun x => x.2)⟩
theorem bel_refl (qw : QW w U) (h0 : 0 ≤ a) (h1 : a < U 3 w) : bel U w a a = true := (bel_eq qw h0 h1).mpr (Or.inl rfl)
theorem par_0 (qw : QW w U) (h0 : 0 ≤ a) : par U w a = -1 ↔ a = 0 := by
  have kb := kO_b (x := U 7 (w * 16 + a)) (a := U 8 (w * 16 + a)) qw.1
  unfold par
  split
  · split
    · omega
    · split <;> omega
  · split <;> omega
theorem kind_ind (qw : QW w U) {P : Int → Prop} (hp : ∀ a, 0 ≤ a → a < U 3 w → (par U w a ≠ -1 → P (par U w a)) → P a) : ∀ a, 0 ≤ a → a < U 3 w → P a := by
  have : ∀ (n : Nat) (a : Int), 0 ≤ a → a < U 3 w → a < n → P a := by
    intro n
    induction n with
    | zero => intro a h0 h1 h2; omega
    | succ n ih =>
      intro a h0 h1 h2
      refine hp a h0 h1 (fun z => ?_)
      have pb := par_b qw h0 h1
      exact ih _ (by omega) (by omega) (by omega)
  exact fun a h0 h1 => this (a + 1).toNat a h0 h1 (by omega)
theorem bel_b (qw : QW w U) : ∀ a, 0 ≤ a → a < U 3 w → bel U w a b = true → 0 ≤ b ∧ b ≤ a := by
  refine kind_ind qw (fun a h0 h1 ih e => ?_)
  have pb := par_b qw h0 h1
  rcases (bel_eq qw h0 h1).mp e with e | ⟨p, e⟩
  · omega
  · have := ih p e
    omega
theorem bel_0 (qw : QW w U) : ∀ a, 0 ≤ a → a < U 3 w → bel U w a 0 = true := by
  refine kind_ind qw (fun a h0 h1 ih => ?_)
  by_cases p : par U w a = -1
  · rw [(par_0 qw h0).mp p]
    exact bel_refl qw (by omega) (by have := qw.1; omega)
  · exact (bel_eq qw h0 h1).mpr (Or.inr ⟨p, ih p⟩)
theorem bel_tr (qw : QW w U) (e2 : bel U w b c = true) : ∀ a, 0 ≤ a → a < U 3 w → bel U w a b = true → bel U w a c = true := by
  refine kind_ind qw (fun a h0 h1 ih e => ?_)
  rcases (bel_eq qw h0 h1).mp e with e | ⟨p, e⟩
  · rw [e]
    exact e2
  · exact (bel_eq qw h0 h1).mpr (Or.inr ⟨p, ih p e⟩)
theorem bel_tot (qw : QW w U) : ∀ a, 0 ≤ a → a < U 3 w → bel U w a b = true → bel U w a c = true → bel U w b c = true ∨ bel U w c b = true := by
  refine kind_ind qw (fun a h0 h1 ih e f => ?_)
  rcases (bel_eq qw h0 h1).mp e with x | ⟨p, x⟩
  · rw [← x]
    exact Or.inl f
  · rcases (bel_eq qw h0 h1).mp f with y | ⟨_, y⟩
    · rw [← y]
      exact Or.inr e
    · exact ih p x y
/-- above all of a set -/
def Cma (U : tSt) (w s c : Int) : Prop := 0 ≤ c ∧ c < U 3 w ∧ ∀ q, 0 ≤ q → q < U 3 w → sHas s q = true → bel U w q c = true
theorem ovA_iff (qw : QW w U) (h0 : 0 ≤ k) (h1 : k < U 3 w) : ovA U w s k a = true ↔ bel U w k a = true ∧ Cma U w s k := by
  have : ∀ (d : Nat) (j : Int) (z : Bool), tFor (fun q z => z && (!sHas s q || bel U w q k)) d j z = true ↔ z = true ∧ ∀ q, j ≤ q → q < j + d → sHas s q = true → bel U w q k = true := by
    intro d
    induction d with
    | zero =>
      intro j z
      rw [tFor]
      exact ⟨fun e => ⟨e, fun q a b => by omega⟩, fun e => e.1⟩
    | succ d ih =>
      intro j z
      rw [tFor, ih, Bool.and_eq_true, Bool.or_eq_true, Bool.not_eq_true']
      constructor
      · rintro ⟨⟨e1, e2⟩, e3⟩
        refine ⟨e1, fun q x1 x2 x3 => ?_⟩
        by_cases p : q = j
        · rw [p] at x3 ⊢
          rcases e2 with e2 | e2
          · rw [e2] at x3
            exact absurd x3 (by decide)
          · exact e2
        · exact e3 q (by omega) (by omega) x3
      · rintro ⟨e1, e2⟩
        refine ⟨⟨e1, ?_⟩, fun q x1 x2 x3 => e2 q (by omega) (by omega) x3⟩
        cases hh : sHas s j
        · exact Or.inl rfl
        · exact Or.inr (e2 j (by omega) (by omega) hh)
  unfold ovA
  rw [this]
  have n3 := qw.1
  exact ⟨fun e => ⟨e.1, h0, h1, fun q x1 x2 x3 => e.2 q x1 (by omega) x3⟩, fun e => ⟨e.1, fun q x1 x2 x3 => e.2.2.2 q x1 (by omega) x3⟩⟩
theorem ovr_char (qw : QW w U) (ne : ∃ q, 0 ≤ q ∧ q < U 3 w ∧ sHas s q = true) : Cma U w s (ovr U w s) ∧ ∀ c, Cma U w s c → bel U w (ovr U w s) c = true := by
  have n3 := qw.1
  obtain ⟨q0, q1, q2, q3⟩ := ne
  have : ∀ (d : Nat) (j a : Int), 1 ≤ j → j + d = U 3 w → a < j → Cma U w s a → (∀ c, c < j → Cma U w s c → bel U w a c = true) →
      Cma U w s (tFor (fun k a => if ovA U w s k a = true then k else a) d j a) ∧ ∀ c, Cma U w s c → bel U w (tFor (fun k a => if ovA U w s k a = true then k else a) d j a) c = true := by
    intro d
    induction d with
    | zero =>
      intro j a h0 h1 h2 h3 h4
      rw [tFor]
      exact ⟨h3, fun c hc => h4 c (by have := hc.2.1; omega) hc⟩
    | succ d ih =>
      intro j a h0 h1 h2 h3 h4
      rw [tFor]
      by_cases p : ovA U w s j a = true
      · rw [if_pos p]
        obtain ⟨p1, p2⟩ := (ovA_iff qw (by omega) (by omega)).mp p
        refine ih (j + 1) j (by omega) (by omega) (by omega) p2 (fun c c1 c2 => ?_)
        by_cases e : c = j
        · rw [e]
          exact bel_refl qw (by omega) (by omega)
        · exact bel_tr qw (h4 c (by omega) c2) j (by omega) (by omega) p1
      · rw [if_neg p]
        refine ih (j + 1) a (by omega) (by omega) (by omega) h3 (fun c c1 c2 => ?_)
        by_cases e : c = j
        · refine absurd ((ovA_iff qw (by omega) (by omega)).mpr ⟨?_, by rw [← e]; exact c2⟩) p
          rcases bel_tot qw q0 q1 q2 (h3.2.2 q0 q1 q2 q3) (c2.2.2 q0 q1 q2 q3) with z | z
          · have := bel_b qw a h3.1 h3.2.1 z
            omega
          · rw [← e]
            exact z
        · exact h4 c (by omega) c2
  rw [ovr_eq]
  exact this (U 3 w - 1).toNat 1 0 (by omega) (by omega) (by omega) ⟨by omega, by omega, fun q a b _ => bel_0 qw q a b⟩ (fun c c1 c2 => by
    have := c2.1
    rw [show c = 0 by omega]
    exact bel_refl qw (by omega) (by omega))
theorem Cma_un (qw : QW w U) {c' : Int} (h1 : Cma U w s c) (h2 : Cma U w s c') (h3 : bel U w c c' = true) (h4 : bel U w c' c = true) : c = c' := by
  have := bel_b qw c h1.1 h1.2.1 h3
  have := bel_b qw c' h2.1 h2.2.1 h4
  omega
theorem low_ex : ∀ (n : Nat), 0 < n → ∃ j k, n = 2 ^ j * (2 * k + 1) := by
  intro n
  induction n using Nat.strongRecOn with
  | ind n ih =>
    intro h
    by_cases p : n % 2 = 0
    · obtain ⟨j, k, e⟩ := ih (n / 2) (by omega) (by omega)
      refine ⟨j + 1, k, ?_⟩
      have : n = 2 * (n / 2) := by omega
      rw [this, e, Nat.pow_succ]
      simp [Nat.mul_comm, Nat.mul_left_comm]
    · exact ⟨0, n / 2, by rw [Nat.pow_zero]; omega⟩
end BLS
section VRS
variable {r u lk : Nat} {h : am_H} {v : vT} {U : tSt} {w k s : Int} {A : Int → Nat} {Q : am_O → am_H → Prop}
theorem c_varI (x : KX h v u lk U w A) (hs : sOk s) {o : Int} (o0 : 0 ≤ o) (o1 : o < U 3 w) {l1 : Option am_V} : ∀ (n : Nat) (k : Int), k < n → 0 ≤ k → k < U 3 w → (∀ c, Cma U w s c → bel U w k c = true) → (∀ q, 0 ≤ q → q < o → sHas s q = true → bel U w q k = true) →
    (∀ k, 0 ≤ k → k < U 3 w → (∀ c, Cma U w s c → bel U w k c = true) → (∀ q, 0 ≤ q → q < o + 1 → sHas s q = true → bel U w q k = true) → Rn r 284 79 [some (vR (some u)), l1, some (vI (iI s)), some (vR (some (A k))), some (vI (iI o))] [] h Q) →
    Rn r 284 42 [some (vR (some u)), l1, some (vI (iI s)), some (vR (some (A k))), some (vI (iI o))] [] h Q := by
  have x' := x
  have qw := x.2.2
  obtain ⟨ku, ru, n3, kk, sz, gt, kl⟩ := x.raw
  have eh : (iI s >>> (iI o &&& 31)) &&& (1 : Int32) = iI (if sHas s o = true then 1 else 0) := iI_has hs o0 (by omega)
  intro n
  induction n with
  | zero => intro k h0 h1; omega
  | succ n ih =>
    intro k h0 h1 h2 h3 h4 q
    rw [sX3_variable_42, sX3_variable_43, sX3_variable_45, sX3_variable_46, sX3_variable_47, eh, sX3_variable_48, sX3_variable_49]
    by_cases hh : sHas s o = true
    · have gj := fun Q => gt r o Q o0 o1
      have bq : ∀ Q, Cl r 47 [vR (some (A o)), vR (some (A k))] h Q ↔ _ := fun Q => c_isBelow x' ⟨o0, o1⟩ ⟨h1, h2⟩
      have ko := (kk o o0 o1).1
      obtain ⟨kk1, _, _, kk4⟩ := kk k h1 h2
      rw [if_pos hh, if_neg (fun z => z rfl), sX3_variable_52, sX3_variable_53 ku, ru, sX3_variable_56, sX3_variable_58 kl, gj, Kt_v, sX3_variable_61 (by rw [ko]; decide), sX3_variable_64, sX3_variable_65 ko, bq, Kt_v, sX3_variable_68, i_0]
      by_cases p : bel U w o k = true
      · rw [if_pos (bI_1.mpr p)]
        refine q k h1 h2 h3 (fun q a b c => ?_)
        by_cases e : q = o
        · rw [e]
          exact p
        · exact h4 q a (by omega) c
      · have k0 : par U w k ≠ -1 := fun z => by
          rw [par_0 qw h1] at z
          rw [z] at p
          exact p (bel_0 qw o o0 o1)
        have pb := par_b qw h1 h2
        rw [if_neg (fun z => p (bI_1.mp z)), sX3_variable_71, sX3_variable_72 kk1, kk4, optA_s k0, sX3_variable_75, sX3_variable_76]
        refine ih (par U w k) (by omega) (by omega) (by omega) (fun c hc => ?_) (fun q a b c => ?_) q
        · rcases (bel_eq qw h1 h2).mp (h3 c hc) with e | e
          · rw [e] at p
            exact absurd (hc.2.2 o o0 o1 hh) p
          · exact e.2
        · exact bel_tr qw ((bel_eq qw h1 h2).mpr (Or.inr ⟨k0, bel_refl qw (by omega) (by omega)⟩)) q a (by omega) (h4 q a b c)
    · rw [if_neg hh, if_pos (by decide)]
      refine q k h1 h2 h3 (fun q a b c => ?_)
      by_cases e : q = o
      · rw [e] at c
        exact absurd c hh
      · exact h4 q a (by omega) c
theorem c_varL (x : KX h v u lk U w A) (hs : sOk s) (ne : ∃ q, 0 ≤ q ∧ q < U 3 w ∧ sHas s q = true) {l1 : Option am_V} : ∀ (d : Nat) (o k : Int), 0 ≤ o → o + d = U 3 w → 0 ≤ k → k < U 3 w → (∀ c, Cma U w s c → bel U w k c = true) → (∀ q, 0 ≤ q → q < o → sHas s q = true → bel U w q k = true) →
    Q (Sum.inl (some (vI (iI (sOnly (ovr U w s)))))) h → Rn r 284 30 [some (vR (some u)), l1, some (vI (iI s)), some (vR (some (A k))), some (vI (iI o))] [] h Q := by
  have x' := x
  have qw := x.2.2
  obtain ⟨ku, ru, n3, kk, sz, gt, kl⟩ := x.raw
  intro d
  induction d with
  | zero =>
    intro o k h0 h1 h2 h3 h4 h5 q
    obtain ⟨kk1, kk2, _, _⟩ := kk k h2 h3
    have es : (1 : Int32) <<< (iI k &&& 31) = iI (sBit k) := iI_shl h2 (by omega)
    rw [sX3_variable_30, sX3_variable_32, sX3_variable_33 ku, ru, sX3_variable_36 kl, sz, Kt_v, sX3_variable_39, if_pos (by rw [iI_le (by omega) (by omega) (by omega) (by omega)]; omega), sX3_variable_85, sX3_variable_86, sX3_variable_87 kk1, kk2, sX3_variable_90, es, sX3_variable_91]
    obtain ⟨c1, c2⟩ := ovr_char qw ne
    have ck : Cma U w s k := ⟨h2, h3, fun q a b c => h5 q a (by omega) c⟩
    have e := Cma_un qw c1 ck (c2 k ck) (h4 _ c1)
    rw [e] at q
    unfold sOnly at q
    rw [if_neg (by omega)] at q
    exact q
  | succ d ih =>
    intro o k h0 h1 h2 h3 h4 h5 q
    have ej : iI o + (1 : Int32) = iI (o + 1) := by rw [i_1, iI_add]
    rw [sX3_variable_30, sX3_variable_32, sX3_variable_33 ku, ru, sX3_variable_36 kl, sz, Kt_v, sX3_variable_39, if_neg (by rw [iI_le (by omega) (by omega) (by omega) (by omega)]; omega)]
    refine c_varI x' hs h0 (by omega) (k + 1).toNat k (by omega) h2 h3 h4 h5 (fun k' a b c e => ?_)
    rw [sX3_variable_79, ej, sX3_variable_82]
    exact ih (o + 1) k' (by omega) (by omega) a b c e q
theorem c_variable (x : KX h v u lk U w A) (hs : sOk s) (q : Q (Sum.inl (some (vI (iI (sOnly (if chO U w s = 0 then 2 else ovr U w (chO U w s))))))) h) : Cl r 284 [vR (some u), vI (iI s)] h Q := by
  have qw := x.2.2
  have hc : sOk (chO U w s) := chO_ok qw
  have ch : ∀ Q, Cl r 177 [vR (some u), vI (iI s)] h Q ↔ _ := fun Q => c_checked x hs
  have z0 : iI (chO U w s) = (0 : Int32) ↔ chO U w s = 0 := by rw [i_0, iI_eq (by have := hc.1; omega) (by have := hc.2; omega) (by omega) (by omega)]
  obtain ⟨ku, ru, n3, kk, sz, gt, kl⟩ := x.raw
  rw [eX3_variable, sX3_variable_0, sX3_variable_1, sX3_variable_2 ku, ch, Kt_v, sX3_variable_5, sX3_variable_6, sX3_variable_7]
  by_cases p : chO U w s = 0
  · rw [if_neg (fun z => z (z0.mpr p)), sX3_variable_10, sX3_variable_11]
    rw [if_pos p] at q
    exact q
  · rw [if_pos (fun z => p (z0.mp z))]
    rw [if_neg p] at q
    obtain ⟨j, k, e⟩ := low_ex (chO U w s).toNat (by have := hc.1; omega)
    have hb : sHas (chO U w s) j = true := by
      unfold sHas
      rw [e, Int.toNat_natCast, Nat.testBit_eq_decide_div_mod_eq, decide_eq_true_eq, Nat.mul_div_cancel_left _ (Nat.two_pow_pos j)]
      omega
    have j1 : (j : Int) < U 3 w := by
      have z := hb
      unfold chO at z
      rw [sHas_for, sHas_0] at z
      rcases z with z | ⟨k, a, b, z⟩
      · exact absurd z (by decide)
      · split at z
        · rw [sHas_only (by omega) (by omega)] at z
          omega
        · rw [sHas_0] at z
          exact absurd z (by decide)
    have low : lowB (iI (chO U w s)) j := by
      refine ⟨k, ?_⟩
      rw [← e]
      obtain ⟨s0, s1⟩ := hc
      have : iI (chO U w s) = iI ((chO U w s).toNat : Nat) := by congr 1; omega
      rw [this, ← iI_nI]
      show (BitVec.ofNat 32 (chO U w s).toNat).toNat = _
      rw [BitVec.toNat_ofNat]
      omega
    have nt : ∀ Q, Cl r 301 [vI (iI (chO U w s))] h Q ↔ _ := fun Q => v_ntz low
    have gj := fun Q => gt r j Q (by omega) j1
    have kj := (kk j (by omega) j1).1
    rw [sX3_variable_12, sX3_variable_13 ku, ru, sX3_variable_16, sX3_variable_17, nt, Kt_v, sX3_variable_20 kl, gj, Kt_v, sX3_variable_23 (by rw [kj]; decide), sX3_variable_26, sX3_variable_27, sX3_variable_28, i_0]
    refine c_varL x hc ⟨j, by omega, j1, hb⟩ (U 3 w).toNat 0 j (by omega) (by omega) (by omega) j1 (fun c hc => hc.2.2 j (by omega) j1 hb) (fun q a b => by omega) q
end VRS
