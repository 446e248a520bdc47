/-! COMPONENT, 142: find (21): the bytes *-/
section AXO
variable {x rd tp wr wk r sb : Nat} {C R : Nat → Nat} {A : Nat → Int → Nat} {T : Nat → Nat} {p0 w t n : Int} {g : Int → Int} {v0 : vT} {S U : tSt} {Q : am_O → am_H → Prop} {l4 l5 : Option am_V}
theorem fi_l (s0 : ∀ j, 0 ≤ S 0 j ∧ S 0 j ≤ 255) (hn : 0 ≤ n ∧ n ≤ 2000) (kx : hK v0.1 x = 1) (r0 : hR v0.1 x 0 = some tp) (kt : hK v0.1 tp = 44) (lt : hL v0.1 tp = 2000) (ht : ∀ p, 0 ≤ p → p < 2000 → hI v0.1 tp p.toNat = iI (sB (S 0 p))) (hsb : hN v0.1 ≤ sb)
    (q : ∀ h' v' m l3, CR h' v' → Fw (fun _ _ => False) v0 v' → hK v'.1 sb = 16 → vTx v' sb = bT S m → (m : Int) = (if n ≤ 9 then n else 9) → hN v'.1 ≤ hN v0.1 + 20 → hS v0.1 ≤ hS v'.1 → hS v'.1 ≤ hS v0.1 + 500 → Rn r 21 55 [some (vR (some x)), some (vI (iI n)), some (vR (some sb)), l3, l4, l5] [] h' Q) :
    ∀ (d k : Nat) (h : am_H) (v : vT), ((k + d : Nat) : Int) = (if n ≤ 9 then n else 9) → CR h v → Fw (fun _ _ => False) v0 v → hK v.1 sb = 16 → vTx v sb = bT S k → hN v.1 ≤ hN v0.1 + 10 + k → hS v0.1 ≤ hS v.1 → hS v.1 ≤ hS v0.1 + 200 + 22 * k → Rn r 21 22 [some (vR (some x)), some (vI (iI n)), some (vR (some sb)), some (vI (iI k)), l4, l5] [] h Q := by
  intro d
  induction d with
  | zero =>
    intro k h v hk c f ks tx n1 s1 s2
    have k9 : k ≤ 9 := by split at hk <;> omega
    rw [sX0_find_22, sX0_find_23, sX0_find_24]
    by_cases z : n ≤ k
    · rw [if_pos (by rw [iI_le (by omega) (by omega) (by omega) (by omega)]; exact z)]
      exact q h v k _ c f ks tx (by rw [← hk]; rfl) (by omega) s1 (by omega)
    · rw [if_neg (by rw [iI_le (by omega) (by omega) (by omega) (by omega)]; exact z), sX0_find_27, sX0_find_28, sX0_find_30, show (9 : Int32) = iI 9 from rfl, if_pos (by rw [iI_le (by omega) (by omega) (by omega) (by omega)]; split at hk <;> omega)]
      exact q h v k _ c f ks tx (by rw [← hk]; rfl) (by omega) s1 (by omega)
  | succ d ih =>
    intro k h v hk c f ks tx n1 s1 s2
    have k9 : k < 9 ∧ (k : Int) < n := by split at hk <;> omega
    have lx := hK_lt kx (by decide)
    have ltp := hK_lt kt (by decide)
    have kx1 := f.kk kx (by decide)
    have kt1 := f.kk kt (by decide)
    have r01 : hR v.1 x 0 = some tp := by rw [(f.ff lx (fun y => y)).2.2]; exact r0
    have lth : hL h tp = 2000 := by rw [c.hl kt1 (by decide) (wk_all (c := 44) rfl).2.1, (f.2.2 tp ltp).2.1]; exact lt
    have hb : hI h tp k = iI (sB (S 0 k)) := by
      rw [c.ii kt1 rfl, (f.ff ltp (fun y => y)).1]
      have := ht k (by omega) (by omega)
      rw [Int.toNat_natCast] at this
      exact this
    have sk := s0 k
    have kth := c.kk kt1 (by decide)
    have ej : iI (k : Int) + (1 : Int32) = iI ((k + 1 : Nat) : Int) := by rw [i_1, iI_add]; rfl
    rw [sX0_find_22, sX0_find_23, sX0_find_24, if_neg (by rw [iI_le (by omega) (by omega) (by omega) (by omega)]; omega), sX0_find_27, sX0_find_28, sX0_find_30, show (9 : Int32) = iI 9 from rfl, if_neg (by rw [iI_le (by omega) (by omega) (by omega) (by omega)]; omega), sX0_find_33, sX0_find_34, sX0_find_35 (c.kk kx1 (by decide)), c.rr kx1 rfl, r01, sX0_find_38, sX0_find_39 (by rw [kth]; decide) (by rw [kth]; decide) (by rw [lth]; exact iI_bd (by omega) (by omega) (by omega)), iI_nat (by omega) (by omega), Int.toNat_natCast, hb, sX0_find_40, sX0_find_43, chr1 sk.1 sk.2, sX0_find_44, chr2 sk.1 sk.2, sX0_find_45 (c.kk ks (by decide))]
    refine v_apc c ks sk.1 sk.2 (by rw [tx, bT_l]; omega) (fun h' n' s' c' b1 b2 b3 b4 => ?_)
    rw [Kt_v, sX0_find_48, sX0_find_49, ej, sX0_find_52]
    rw [tx, bT_l] at b4
    have f2 : Fw (fun _ _ => False) v0 (vsT (vbm v n' s') sb (vTx v sb ++ [(iI (S 0 (k : Int))).toInt8.toInt32])) := (f.bm b1).sT (Or.inl hsb)
    refine ih (k + 1) h' _ (by rw [← hk]; omega) c' f2 ?_ ?_ ?_ ?_ ?_
    · rw [vsT_1, vbm_1, hK_bmp b1]; exact ks
    · rw [bT_s, ← tx]; exact if_pos rfl
    · show n' ≤ _; omega
    · show hS v0.1 ≤ s'; omega
    · show s' ≤ _; omega
end AXO
