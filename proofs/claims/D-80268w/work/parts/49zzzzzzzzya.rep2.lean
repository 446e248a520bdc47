/-! COMPONENT: report, for places up to 100000 *-/
section RPT
variable {r u l lk : Nat} {h : am_H} {v v' : vT} {U : tSt} {w k s t p : Int} {A : Int → Nat} {L : List tMi} {x y z : Int32} {X : Nat → Nat → Prop} {Q : am_O → am_H → Prop}
theorem c_repK (nl : lk ≠ l) (ho : sOk t) (hp : -1 ≤ p ∧ p ≤ 100000) {l1 l2 : Option am_V} : ∀ (d : Nat) (j : Int) (h : am_H) (v : vT) (L : List tMi), KX h v u lk U w A → hR v.1 u 5 = some l → MiL v l L → L.length + d ≤ 15000 → 0 ≤ j → j + d = U 3 w →
    (∀ h' v', CR h' v' → Fw (fun b k => b = l ∧ k = 99) v v' → MiA v v' l L (tCat (fun k => if sHas t k = true then [(9, (p, k))] else []) d j) → Q (Sum.inl none) h') →
    Rn r 138 15 [some (vR (some u)), l1, l2, some (vI (iI p)), some (vI (iI t)), some (vI (iI j))] [] h Q := by
  intro d
  induction d with
  | zero =>
    intro j h v L x ru m hl h0 h1 q
    obtain ⟨ku, rk, n3, kk, sz, gt, kl⟩ := x.raw
    rw [sX3_report_15, sX3_report_17, sX3_report_18 ku, rk, sX3_report_21 kl, sz, Kt_v, sX3_report_24, if_pos (by rw [iI_le (by omega) (by omega) (by omega) (by omega)]; omega), sX3_report_53]
    exact q h v x.1 Fw.refl (MiA.nil m)
  | succ d ih =>
    intro j h v L x ru m hl h0 h1 q
    obtain ⟨ku, rk, n3, kk, sz, gt, kl⟩ := x.raw
    have ej : iI j + (1 : Int32) = iI (j + 1) := by rw [i_1, iI_add]
    have eh : (iI t >>> (iI j &&& 31)) &&& (1 : Int32) = iI (if sHas t j = true then 1 else 0) := iI_has ho h0 (by omega)
    rw [sX3_report_15, sX3_report_17, sX3_report_18 ku, rk, sX3_report_21 kl, sz, Kt_v, sX3_report_24, if_neg (by rw [iI_le (by omega) (by omega) (by omega) (by omega)]; omega), sX3_report_27, sX3_report_29, sX3_report_31, sX3_report_32, sX3_report_33, eh, sX3_report_34, sX3_report_35]
    rw [tCat_s] at q
    by_cases hh : sHas t j = true
    · rw [if_pos hh, if_neg (fun z => z rfl), sX3_report_38, sX3_report_39, sX3_report_41, sX3_report_42, sX3_report_44 ku, i_9]
      refine c_mi1 x.1 x.2.1.1 ru m (by omega) (by omega) (by omega) (by omega) (fun h1 v1 c1 f1 m1 => ?_)
      rw [Kt_0, sX3_report_47, ej, sX3_report_50]
      have x1 := x.fwm c1 f1 nl
      rw [if_pos hh] at q
      refine ih (j + 1) h1 v1 _ x1 (by rw [(f1.ff (hK_lt x.2.1.1 (by decide)) (fun z => absurd z.2 (by decide))).2.2]; exact ru) m1.1 (by rw [insA_len]; simp only [List.length_singleton]; omega) (by omega) (by omega) (fun h2 v2 c2 f2 m2 => ?_)
      exact q h2 v2 c2 (f1.trans f2) (m1.trans m2)
    · rw [if_neg hh, if_pos (by decide), sX3_report_47, ej, sX3_report_50]
      rw [if_neg hh] at q
      exact ih (j + 1) h v L x ru m (by omega) (by omega) (by omega) q
theorem c_repor (x : KX h v u lk U w A) (ru : hR v.1 u 5 = some l) (nl : lk ≠ l) (m : MiL v l L) (hl : L.length + 16 ≤ 15000) (hs : sOk s) (ht : sOk t) (hp : -1 ≤ p ∧ p ≤ 100000)
    (q : ∀ h' v', CR h' v' → Fw (fun b k => b = l ∧ k = 99) v v' → MiA v v' l L (mUnt U w s t p) → Q (Sum.inl none) h') : Cl r 138 [vR (some u), vI (iI s), vI (iI t), vI (iI p)] h Q := by
  obtain ⟨ku, rk, n3, kk, sz, gt, kl⟩ := x.raw
  have hc : sOk (chO U w s) := chO_ok x.2.2
  have hw : sOk (wout U w (chO U w s) t) := wout_ok x.2.2
  have ch : ∀ Q, Cl r 177 [vR (some u), vI (iI s)] h Q ↔ _ := fun Q => c_checked x hs
  have wo : ∀ Q, Cl r 178 [vR (some u), vI (iI (chO U w s)), vI (iI t)] h Q ↔ _ := fun Q => c_without x hc ht
  rw [eX3_report, sX3_report_0, sX3_report_1, sX3_report_2, sX3_report_3 ku, ch, Kt_v, sX3_report_6, sX3_report_7 ku, wo, Kt_v, sX3_report_10, sX3_report_12, sX3_report_13, i_0]
  refine c_repK nl hw hp (U 3 w).toNat 0 h v L x ru m (by omega) (by omega) (by omega) (fun h' v' c f mm => q h' v' c f ?_)
  have e : mUnt U w s t p = tCat (fun k => if sHas (wout U w (chO U w s) t) k = true then [(9, (p, k))] else []) (U 3 w).toNat 0 := by
    unfold mUnt
    apply tCat_congr
    intro k a b
    have hk : k < U 3 w := by omega
    by_cases z : sHas (wout U w (chO U w s) t) k = true
    · have z' := z
      rw [sHas_wo a hk, sHas_ch a hk] at z'
      show (if _ then _ else _) = (if _ then _ else _)
      rw [if_pos z, if_pos ⟨z'.1.1, z'.1.2, z'.2⟩]
    · have z' := z
      rw [sHas_wo a hk, sHas_ch a hk] at z'
      show (if _ then _ else _) = (if _ then _ else _)
      rw [if_neg z, if_neg (fun y => z' ⟨⟨y.1, y.2.1⟩, y.2.2⟩)]
  rw [e]
  exact mm
end RPT
