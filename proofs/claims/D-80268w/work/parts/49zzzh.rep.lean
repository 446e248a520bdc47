/-! COMPONENT, 5: mistakes added, report *-/
theorem insA_len : ∀ (xs L : List tMi), (insA L xs).length = L.length + xs.length
  | [], L => rfl
  | x :: xs, L => by
    show (insA (insM x L) xs).length = _
    rw [insA_len xs, insM_len, List.length_cons]
    omega
/-- the mistakes xs are added to the list l -/
def MiA (v v' : vT) (l : Nat) (L xs : List tMi) : Prop :=
  MiL v' l (insA L xs) ∧ hN v'.1 ≤ hN v.1 + 2 * xs.length ∧ hS v.1 ≤ hS v'.1 ∧ hS v'.1 + 4 * vCp v l ≤ hS v.1 + 4 * vCp v' l + 3 * xs.length ∧ vCp v l ≤ vCp v' l ∧ (vCp v' l ≤ vCp v l ∨ vCp v' l ≤ 2 * (L.length + xs.length) + 10)
theorem MiA.nil {v : vT} {l : Nat} {L : List tMi} (m : MiL v l L) : MiA v v l L [] := ⟨m, by simp, Nat.le_refl _, by simp, Nat.le_refl _, Or.inl (Nat.le_refl _)⟩
theorem MiA.trans {v v1 v2 : vT} {l : Nat} {L xs ys : List tMi} (p : MiA v v1 l L xs) (q : MiA v1 v2 l (insA L xs) ys) : MiA v v2 l L (xs ++ ys) := by
  obtain ⟨p1, p2, p3, p4, p5, p6⟩ := p
  obtain ⟨q1, q2, q3, q4, q5, q6⟩ := q
  rw [insA_len] at q6
  unfold MiA
  rw [List.length_append, insA_app]
  exact ⟨q1, by omega, by omega, by omega, by omega, by omega⟩
section RPS
variable {r u l lk : Nat} {h : am_H} {v v' : vT} {U : tSt} {w k s t p : Int} {A : Int → Nat} {L : List tMi} {x y z : Int32} {X : Nat → Nat → Prop} {Q : am_O → am_H → Prop}
theorem c_mi1 (c : CR h v) (ku : hK v.1 u = 5) (ru : hR v.1 u 5 = some l) (m : MiL v l L) (hl : L.length ≤ 15000) {a b k : Int} (ha : -2147483648 ≤ a ∧ a < 2147483648) (hb : -2147483648 ≤ b ∧ b < 2147483648) (hk : -2147483648 ≤ k ∧ k < 2147483648)
    (q : ∀ h' v', CR h' v' → Fw (fun b k => b = l ∧ k = 99) v v' → MiA v v' l L [(a, (b, k))] → Q (Sum.inl none) h') : Cl r 130 [vR (some u), vI (iI a), vI (iI b), vI (iI k)] h Q := by
  refine c_mistake c ku ru m hl (fun h' v' cr f m' b1 b2 b3 b4 b5 => q h' v' cr f ?_)
  rw [iI_toInt ha.1 ha.2, iI_toInt hb.1 hb.2, iI_toInt hk.1 hk.2] at m'
  exact ⟨m', b1, b2, b3, b4, by simp only [List.length_singleton]; omega⟩
theorem RK_fw (f : Fw X v v') (x : RK v u lk U w A) (h1 : ¬ X u 0) (h2 : ¬ X lk 99) (h3 : ∀ a k, X a k → k = 99 ∨ hK v.1 a ≠ 7) : RK v' u lk U w A := by
  obtain ⟨k1, k2, k3, k4, k5⟩ := x
  refine ⟨f.kk k1 (by decide), by rw [(f.ff (hK_lt k1 (by decide)) h1).2.2]; exact k2, f.kk k3 (by decide), by rw [(f.cc (hK_lt k3 (by decide)) h2).1]; exact k4, fun k q1 q2 => ?_⟩
  obtain ⟨a1, a2, a3, a4⟩ := k5 k q1 q2
  have g : ∀ j, j ≠ 99 → ¬ X (A k) j := fun j hj z => by
    rcases h3 _ _ z with e | e
    · exact hj e
    · exact e a1
  have lt := hK_lt a1 (by decide)
  exact ⟨f.kk a1 (by decide), by rw [(f.ff lt (g 1 (by decide))).1]; exact a2, by rw [(f.ff lt (g 3 (by decide))).1]; exact a3, by rw [(f.ff lt (g 2 (by decide))).2.2]; exact a4⟩
theorem KX.fwm (x : KX h v u lk U w A) {h' : am_H} (c : CR h' v') (f : Fw (fun b k => b = l ∧ k = 99) v v') (nl : lk ≠ l) : KX h' v' u lk U w A :=
  ⟨c, RK_fw f x.2.1 (fun z => absurd z.2 (by decide)) (fun z => nl z.1) (fun _ _ z => Or.inl z.2), x.2.2⟩
theorem sHas_for (f : Int → Int) (q : Int) : ∀ (d : Nat) (j z : Int), sHas (tFor (fun k a => sOr a (f k)) d j z) q = true ↔ sHas z q = true ∨ ∃ k, j ≤ k ∧ k < j + d ∧ sHas (f k) q = true := by
  intro d
  induction d with
  | zero =>
    intro j z
    rw [tFor]
    exact ⟨Or.inl, fun e => e.elim id (fun ⟨k, a, b, _⟩ => by omega)⟩
  | succ d ih =>
    intro j z
    rw [tFor, ih, sHas_or, Bool.or_eq_true]
    constructor
    · rintro ((e | e) | ⟨k, a, b, e⟩)
      · exact Or.inl e
      · exact Or.inr ⟨j, by omega, by omega, e⟩
      · exact Or.inr ⟨k, by omega, by omega, e⟩
    · rintro (e | ⟨k, a, b, e⟩)
      · exact Or.inl (Or.inl e)
      · by_cases p : k = j
        · rw [p] at e
          exact Or.inl (Or.inr e)
        · exact Or.inr ⟨k, by omega, by omega, e⟩
theorem sHas_only {k q : Int} (h0 : 0 ≤ q) (hk : -1 ≤ k) : sHas (sOnly k) q = true ↔ k = q := by
  unfold sOnly
  by_cases p : k = -1
  · rw [if_pos (by omega), sHas_0]
    exact ⟨fun z => absurd z (by decide), fun z => by omega⟩
  · rw [if_neg (by omega), sHas_bit (by omega) h0, decide_eq_true_eq]
theorem sHas_sel (P : Int → Prop) [DecidablePred P] {n q : Int} (h0 : 0 ≤ q) (h1 : q < n) : sHas (tFor (fun k a => sOr a (if P k then sOnly k else 0)) n.toNat 0 0) q = true ↔ P q := by
  rw [sHas_for, sHas_0]
  constructor
  · rintro (e | ⟨k, a, b, e⟩)
    · exact absurd e (by decide)
    · by_cases p : P k
      · rw [if_pos p, sHas_only h0 (by omega)] at e
        rw [← e]
        exact p
      · rw [if_neg p, sHas_0] at e
        exact absurd e (by decide)
  · intro p
    refine Or.inr ⟨q, h0, by omega, ?_⟩
    rw [if_pos p, sHas_only h0 (by omega)]
theorem sHas_ch {q : Int} (h0 : 0 ≤ q) (h1 : q < U 3 w) : sHas (chO U w s) q = true ↔ sHas s q = true ∧ chk U w q = true := sHas_sel _ h0 h1
theorem sHas_wo {q o : Int} (h0 : 0 ≤ q) (h1 : q < U 3 w) : sHas (wout U w s o) q = true ↔ sHas s q = true ∧ und U w q o = false := sHas_sel _ h0 h1
theorem c_repL (nl : lk ≠ l) (ho : sOk t) (hp : -1 ≤ p ∧ p < 100000) {l1 l2 : Option am_V} : ∀ (d : Nat) (j : Int) (h : am_H) (v : vT) (L : List tMi), KX h v u lk U w A → hR v.1 u 5 = some l → MiL v l L → L.length + d ≤ 15000 → 0 ≤ j → j + d = U 3 w →
    (∀ h' v', CR h' v' → Fw (fun b k => b = l ∧ k = 99) v v' → MiA v v' l L (tCat (fun k => if sHas t k = true then [(9, (p, k))] else []) d j) → Q (Sum.inl none) h') →
    Rn r 138 15 [some (vR (some u)), l1, l2, some (vI (iI p)), some (vI (iI t)), some (vI (iI j))] [] h Q := by
  intro d
  induction d with
  | zero =>
    intro j h v L x ru m hl h0 h1 q
    obtain ⟨ku, rk, n3, kk, sz, gt, kl⟩ := x.raw
    rw [sX3_report_15, sX3_report_17, sX3_report_18 ku, rk, sX3_report_21 kl, sz, Kt_v, sX3_report_24, if_pos (by rw [iI_le (by omega) (by omega) (by omega) (by omega)]; omega), sX3_report_53]
    exact q h v x.1 Fw.refl (MiA.nil m)
  | succ d ih =>
    intro j h v L x ru m hl h0 h1 q
    obtain ⟨ku, rk, n3, kk, sz, gt, kl⟩ := x.raw
    have ej : iI j + (1 : Int32) = iI (j + 1) := by rw [i_1, iI_add]
    have eh : (iI t >>> (iI j &&& 31)) &&& (1 : Int32) = iI (if sHas t j = true then 1 else 0) := iI_has ho h0 (by omega)
    rw [sX3_report_15, sX3_report_17, sX3_report_18 ku, rk, sX3_report_21 kl, sz, Kt_v, sX3_report_24, if_neg (by rw [iI_le (by omega) (by omega) (by omega) (by omega)]; omega), sX3_report_27, sX3_report_29, sX3_report_31, sX3_report_32, sX3_report_33, eh, sX3_report_34, sX3_report_35]
    rw [tCat_s] at q
    by_cases hh : sHas t j = true
    · rw [if_pos hh, if_neg (fun z => z rfl), sX3_report_38, sX3_report_39, sX3_report_41, sX3_report_42, sX3_report_44 ku, i_9]
      refine c_mi1 x.1 x.2.1.1 ru m (by omega) (by omega) (by omega) (by omega) (fun h1 v1 c1 f1 m1 => ?_)
      rw [Kt_0, sX3_report_47, ej, sX3_report_50]
      have x1 := x.fwm c1 f1 nl
      rw [if_pos hh] at q
      refine ih (j + 1) h1 v1 _ x1 (by rw [(f1.ff (hK_lt x.2.1.1 (by decide)) (fun z => absurd z.2 (by decide))).2.2]; exact ru) m1.1 (by rw [insA_len]; simp only [List.length_singleton]; omega) (by omega) (by omega) (fun h2 v2 c2 f2 m2 => ?_)
      exact q h2 v2 c2 (f1.trans f2) (m1.trans m2)
    · rw [if_neg hh, if_pos (by decide), sX3_report_47, ej, sX3_report_50]
      rw [if_neg hh] at q
      exact ih (j + 1) h v L x ru m (by omega) (by omega) (by omega) q
theorem tCat_congr {α : Type} {f g : Int → List α} : ∀ (d : Nat) (j : Int), (∀ k, j ≤ k → k < j + d → f k = g k) → tCat f d j = tCat g d j := by
  intro d
  induction d with
  | zero => intro j _; rfl
  | succ d ih =>
    intro j e
    rw [tCat_s, tCat_s, e j (by omega) (by omega), ih (j + 1) (fun k a b => e k (by omega) (by omega))]
theorem c_report (x : KX h v u lk U w A) (ru : hR v.1 u 5 = some l) (nl : lk ≠ l) (m : MiL v l L) (hl : L.length + 16 ≤ 15000) (hs : sOk s) (ht : sOk t) (hp : -1 ≤ p ∧ p < 100000)
    (q : ∀ h' v', CR h' v' → Fw (fun b k => b = l ∧ k = 99) v v' → MiA v v' l L (mUnt U w s t p) → Q (Sum.inl none) h') : Cl r 138 [vR (some u), vI (iI s), vI (iI t), vI (iI p)] h Q := by
  obtain ⟨ku, rk, n3, kk, sz, gt, kl⟩ := x.raw
  have hc : sOk (chO U w s) := chO_ok x.2.2
  have hw : sOk (wout U w (chO U w s) t) := wout_ok x.2.2
  have ch : ∀ Q, Cl r 177 [vR (some u), vI (iI s)] h Q ↔ _ := fun Q => c_checked x hs
  have wo : ∀ Q, Cl r 178 [vR (some u), vI (iI (chO U w s)), vI (iI t)] h Q ↔ _ := fun Q => c_without x hc ht
  rw [eX3_report, sX3_report_0, sX3_report_1, sX3_report_2, sX3_report_3 ku, ch, Kt_v, sX3_report_6, sX3_report_7 ku, wo, Kt_v, sX3_report_10, sX3_report_12, sX3_report_13, i_0]
  refine c_repL nl hw hp (U 3 w).toNat 0 h v L x ru m (by omega) (by omega) (by omega) (fun h' v' c f mm => q h' v' c f ?_)
  have e : mUnt U w s t p = tCat (fun k => if sHas (wout U w (chO U w s) t) k = true then [(9, (p, k))] else []) (U 3 w).toNat 0 := by
    unfold mUnt
    apply tCat_congr
    intro k a b
    have hk : k < U 3 w := by omega
    by_cases z : sHas (wout U w (chO U w s) t) k = true
    · have z' := z
      rw [sHas_wo a hk, sHas_ch a hk] at z'
      show (if _ then _ else _) = (if _ then _ else _)
      rw [if_pos z, if_pos ⟨z'.1.1, z'.1.2, z'.2⟩]
    · have z' := z
      rw [sHas_wo a hk, sHas_ch a hk] at z'
      show (if _ then _ else _) = (if _ then _ else _)
      rw [if_neg z, if_neg (fun y => z' ⟨⟨y.1, y.2.1⟩, y.2.2⟩)]
  rw [e]
  exact mm
end RPS
