/-! JDK: maps, 6: the root comes first in its bin *-/
def MCh (t ix : Nat) (B : Nat → Prop) (h h' : am_H) : Prop := h'.1 = h.1 ∧ h'.2.1 = h.2.1 ∧ (∀ b k, hJ h' b k = hJ h b k) ∧ (∀ b k, hI h' b k = hI h b k) ∧ (∀ b k, ¬ (b = t ∧ k = ix) → ¬ (B b ∧ (k = 3 ∨ k = 7)) → hR h' b k = hR h b k)
section MVR
variable {B : Nat → Prop} {h h' h'' : am_H} {a k j t ix r rt fs : Nat} {z : Option Nat} {x : Int32} {Q : am_O → am_H → Prop}
theorem MCh.refl : MCh t ix B h h := ⟨rfl, rfl, fun _ _ => rfl, fun _ _ => rfl, fun _ _ _ _ => rfl⟩
theorem MCh.trans (c : MCh t ix B h h') (d : MCh t ix B h' h'') : MCh t ix B h h'' := by
  obtain ⟨c1, c2, c3, c4, c5⟩ := c
  obtain ⟨d1, d2, d3, d4, d5⟩ := d
  exact ⟨d1.trans c1, d2.trans c2, fun b k => (d3 b k).trans (c3 b k), fun b k => (d4 b k).trans (c4 b k), fun b k q p => (d5 b k q p).trans (c5 b k q p)⟩
theorem MCh.pR (hb : B a) (hk : k = 3 ∨ k = 7) : MCh t ix B h (putR h a k z) := ⟨rfl, rfl, fun _ _ => rfl, fun _ _ => rfl, fun b j _ q => by rw [hR_putR, if_neg (fun w => q ⟨by rw [w.1]; exact hb, by rw [w.2]; exact hk⟩)]⟩
theorem MCh.pT : MCh t ix B h (putR h t ix z) := ⟨rfl, rfl, fun _ _ => rfl, fun _ _ => rfl, fun b j q _ => by rw [hR_putR, if_neg q]⟩
theorem isNb_put (n : isNb h B) (hz : ∀ y, z = some y → B y) : isNb (putR h a k z) B := by
  intro x y hx q
  rw [hR_putR, hR_putR] at q
  rcases q with q | q
  · by_cases w : x = a ∧ 3 = k
    · rw [if_pos w] at q; exact hz y q
    · rw [if_neg w] at q; exact n x y hx (Or.inl q)
  · by_cases w : x = a ∧ 7 = k
    · rw [if_pos w] at q; exact hz y q
    · rw [if_neg w] at q; exact n x y hx (Or.inr q)
theorem v_move (tk : hK h t = 48) (lt : hL h t = 64) (ib : bIx 64 (hI h rt 0) = ix) (f : hR h t ix = some fs) (bf : B fs) (br : B rt) (k13 : ∀ x, B x → hK h x = 13) (nb : isNb h B)
    (post : ∀ h', MCh t ix B h h' → hR h' t ix = some rt → isNb h' B → (rt ≠ fs → hR h' rt 3 = some fs) → (rt = fs → h' = h) → Q (Sum.inl none) h') : Cl r 261 [vR (some t), vR (some rt)] h Q := by
  have kr := k13 rt br
  have bi := bIx_lt 64 (Or.inr (Or.inr rfl)) (hI h rt 0)
  rw [ib] at bi
  have c1 : ¬ iI ((64 : Nat) : Int) ≤ (0 : Int32) := by decide
  have c2 : iI ((64 : Nat) : Int) - (1 : Int32) = iI ((64 : Nat) - 1) := by rw [i_1, iI_sub]
  have kf := k13 fs bf
  have tb : ∀ x, B x → x ≠ t := fun x hx e => by
    have := k13 x hx
    rw [e, tk] at this
    omega
  rw [eJ21_moveRootToFront, sJ21_moveRootToFront_0, sJ21_moveRootToFront_1, if_neg (by simp), sJ21_moveRootToFront_4, sJ21_moveRootToFront_5, if_neg (by simp), sJ21_moveRootToFront_8, sJ21_moveRootToFront_9 (by omega) (by omega), lt, iI_nI, sJ21_moveRootToFront_10, sJ21_moveRootToFront_11, sJ21_moveRootToFront_12, if_neg c1, sJ21_moveRootToFront_15, sJ21_moveRootToFront_16, sJ21_moveRootToFront_17, c2, sJ21_moveRootToFront_18, sJ21_moveRootToFront_19 kr, sJ21_moveRootToFront_22, bi.2, sJ21_moveRootToFront_23, sJ21_moveRootToFront_24, sJ21_moveRootToFront_25, sJ21_moveRootToFront_26 (by omega) (by omega) (by rw [lt]; exact bd_i bi.1 (by decide)), nn_i (by omega), f, sJ21_moveRootToFront_27 (by rw [kf]; decide), sJ21_moveRootToFront_30, sJ21_moveRootToFront_32, sJ21_moveRootToFront_33, sJ21_moveRootToFront_35]
  have fin : ∀ (g : am_H) (l0 l1 l2 l3 l4 l5 l6 : Option am_V), Rn r 261 102 [l0, l1, l2, l3, l4, l5, l6] [] g Q ↔ Q (Sum.inl none) g := fun g l0 l1 l2 l3 l4 l5 l6 => by
    rw [sJ21_moveRootToFront_102, sJ21_moveRootToFront_105, if_pos (by decide), sJ21_moveRootToFront_123]
  by_cases e : some rt = some fs
  · rw [if_pos e, fin]
    cases e
    exact post h MCh.refl f nb (fun w => absurd rfl w) (fun _ => rfl)
  · have ne : rt ≠ fs := fun w => e (by rw [w])
    rw [if_neg e, sJ21_moveRootToFront_38, sJ21_moveRootToFront_39, sJ21_moveRootToFront_40, sJ21_moveRootToFront_41 (Or.inr ⟨tk, by omega, by omega⟩) (by rw [lt]; exact bd_i bi.1 (by decide)), nn_i (by omega), sJ21_moveRootToFront_42, sJ21_moveRootToFront_43 (by exact kr), hR_putR, if_neg (am_ne (tb rt br)), sJ21_moveRootToFront_46, sJ21_moveRootToFront_48, sJ21_moveRootToFront_49 (by exact kr), hR_putR, if_neg (am_ne (tb rt br)), sJ21_moveRootToFront_52, sJ21_moveRootToFront_53, sJ21_moveRootToFront_55]
    -- behind the old neighbours
    have tail : ∀ (g : am_H), MCh t ix B h g → hR g t ix = some rt → isNb g B → (hK g fs = 13) → hK g rt = 13 → ∀ l2 l3 l5 l6 : Option am_V, Rn r 261 80 [some (vR (some t)), some (vR (some rt)), l2, l3, some (vR (some fs)), l5, l6] [] g Q := by
      intro g mc ht ng k1 k2 l2 l3 l5 l6
      rw [sJ21_moveRootToFront_80, sJ21_moveRootToFront_82, if_neg (by simp), sJ21_moveRootToFront_85, sJ21_moveRootToFront_87, sJ21_moveRootToFront_88 k1, sJ21_moveRootToFront_91, sJ21_moveRootToFront_92, sJ21_moveRootToFront_94 (by exact k2), sJ21_moveRootToFront_97, sJ21_moveRootToFront_98, sJ21_moveRootToFront_99 (by exact k2), fin]
      refine post _ (mc.trans (((MCh.pR bf (Or.inr rfl)).trans (MCh.pR br (Or.inl rfl))).trans (MCh.pR br (Or.inr rfl)))) ?_ ?_ (fun _ => ?_) (fun w => absurd w ne)
      · rw [hR_putR, if_neg (am_ne (Ne.symm (tb rt br))), hR_putR, if_neg (am_ne (Ne.symm (tb rt br))), hR_putR, if_neg (am_ne (Ne.symm (tb fs bf)))]
        exact ht
      · refine isNb_put (isNb_put (isNb_put ng ?_) ?_) ?_
        · intro y hy; cases hy; exact br
        · intro y hy; cases hy; exact bf
        · intro y hy; cases hy
      · rw [hR_putR, if_neg (fun w => absurd w.2 (by decide)), hR_putR, if_pos ⟨rfl, rfl⟩]
    -- the neighbour before
    have mid : ∀ (g : am_H), MCh t ix B h g → hR g t ix = some rt → isNb g B → ∀ l2 l3 : Option am_V, Rn r 261 68 [some (vR (some t)), some (vR (some rt)), l2, l3, some (vR (some fs)), some (vR (hR h rt 3)), some (vR (hR h rt 7))] [] g Q := by
      intro g mc ht ng l2 l3
      have kg : ∀ y, hK g y = hK h y := fun y => by unfold hK; rw [mc.1, mc.2.1]
      rw [sJ21_moveRootToFront_68, sJ21_moveRootToFront_70]
      cases hp : hR h rt 7 with
      | none =>
        rw [if_pos rfl]
        exact tail g mc ht ng (by rw [kg]; exact kf) (by rw [kg]; exact kr) _ _ _ _
      | some b =>
        have bb := nb rt b br (Or.inr hp)
        have kb := k13 b bb
        rw [if_neg (by simp), sJ21_moveRootToFront_73, sJ21_moveRootToFront_75, sJ21_moveRootToFront_77 (by rw [kg]; exact kb)]
        refine tail _ (mc.trans (MCh.pR bb (Or.inl rfl))) ?_ (isNb_put ng (fun y hy => nb rt y br (Or.inl hy))) (by rw [hK_putR, kg]; exact kf) (by rw [hK_putR, kg]; exact kr) _ _ _ _
        rw [hR_putR, if_neg (am_ne (Ne.symm (tb b bb)))]
        exact ht
    have n1 : isNb (putR h t ix (some rt)) B := isNb_put nb (fun y hy => by cases hy; exact br)
    have t1 : hR (putR h t ix (some rt)) t ix = some rt := by rw [hR_putR, if_pos ⟨rfl, rfl⟩]
    cases hn : hR h rt 3 with
    | none =>
      rw [if_pos rfl]
      have := mid _ MCh.pT t1 n1 (some (vI (iI ((64 : Nat) : Int)))) (some (vI (iI ix)))
      rw [hn] at this
      exact this
    | some a =>
      have ba := nb rt a br (Or.inl hn)
      have ka := k13 a ba
      rw [if_neg (by simp), sJ21_moveRootToFront_58, sJ21_moveRootToFront_60 (by rw [hK_putR, ka]; decide), sJ21_moveRootToFront_63, sJ21_moveRootToFront_65 (by exact ka)]
      have := mid _ (MCh.pT.trans (MCh.pR (z := hR h rt 7) ba (Or.inr rfl))) (by rw [hR_putR, if_neg (am_ne (Ne.symm (tb a ba)))]; exact t1) (isNb_put n1 (fun y hy => nb rt y br (Or.inr hy))) (some (vI (iI ((64 : Nat) : Int)))) (some (vI (iI ix)))
      rw [hn] at this
      exact this
end MVR
