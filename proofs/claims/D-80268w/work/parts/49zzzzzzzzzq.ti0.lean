/-! COMPONENT, 130: the beginning of reading *-/
/-- rows of a half that was cleared -/
def CLR (w : Int) (U : tSt) : Prop := (U 3 w = 4 ∧ U 9 w = 0 ∧ U 19 w = 0 ∧ U 40 w = 0) ∧ ∀ k : Nat, k < 4 → U 4 (w * 16 + k) = wN (cT k) ∧ U 5 (w * 16 + k) = -1 ∧ U 6 (w * 16 + k) = -1
section TI0
variable {R : Nat → Nat} {A : Nat → Int → Nat} {T : Nat → Nat} {w : Int} {v : vT} {S U : tSt} {n : Nat} {K : Nat → Nat} {O : Nat → Option Nat}
theorem CLR_clear : CLR w (tClear w U) := by
  unfold CLR tClear
  refine ⟨⟨?_, ?_, ?_, ?_⟩, fun k hk => ?_⟩
  · simp only [up_eq, true_and, false_and, and_true, and_false, and_self, if_true, if_false, eq_self, Nat.reduceEqDiff, reduceIte]
  · simp only [up_eq, true_and, false_and, and_true, and_false, and_self, if_true, if_false, eq_self, Nat.reduceEqDiff, reduceIte]
  · simp only [up_eq, true_and, false_and, and_true, and_false, and_self, if_true, if_false, eq_self, Nat.reduceEqDiff, reduceIte]
  · simp only [up_eq, true_and, false_and, and_true, and_false, and_self, if_true, if_false, eq_self, Nat.reduceEqDiff, reduceIte]
  · have : k = 0 ∨ k = 1 ∨ k = 2 ∨ k = 3 := by omega
    have e0 : w * 16 + ((0 : Nat) : Int) = 16 * w := by omega
    have e1 : w * 16 + ((1 : Nat) : Int) = 16 * w + 1 := by omega
    have e2 : w * 16 + ((2 : Nat) : Int) = 16 * w + 2 := by omega
    have e3 : w * 16 + ((3 : Nat) : Int) = 16 * w + 3 := by omega
    unfold up
    rcases this with rfl | rfl | rfl | rfl
    · rw [e0]
      refine ⟨?_, ?_, ?_⟩ <;> simp <;> first | rfl | omega | (rw [if_neg (by omega), if_neg (by omega), if_neg (by omega)]; rfl) | (rw [if_neg (by omega), if_neg (by omega)]; rfl) | (rw [if_neg (by omega)]; rfl)
    · rw [e1]
      refine ⟨?_, ?_, ?_⟩ <;> simp <;> first | rfl | omega | (rw [if_neg (by omega), if_neg (by omega), if_neg (by omega)]; rfl) | (rw [if_neg (by omega), if_neg (by omega)]; rfl) | (rw [if_neg (by omega)]; rfl)
    · rw [e2]
      refine ⟨?_, ?_, ?_⟩ <;> simp <;> first | rfl | omega | (rw [if_neg (by omega), if_neg (by omega), if_neg (by omega)]; rfl) | (rw [if_neg (by omega), if_neg (by omega)]; rfl) | (rw [if_neg (by omega)]; rfl)
    · rw [e3]
      refine ⟨?_, ?_, ?_⟩ <;> simp <;> first | rfl | omega | (rw [if_neg (by omega), if_neg (by omega), if_neg (by omega)]; rfl) | (rw [if_neg (by omega), if_neg (by omega)]; rfl) | (rw [if_neg (by omega)]; rfl)
theorem kO4 (c : CLR w U) {x p : Int} (hp : 0 ≤ p) : kO U w x p = if wN (cT 0) = x then 0 else if wN (cT 1) = x then 1 else if wN (cT 2) = x then 2 else if wN (cT 3) = x then 3 else -1 := by
  obtain ⟨⟨c3, _⟩, ck⟩ := c
  have a0 := ck 0 (by omega)
  have a1 := ck 1 (by omega)
  have a2 := ck 2 (by omega)
  have a3 := ck 3 (by omega)
  unfold kO
  rw [c3]
  show tFst _ 4 0 = _
  unfold tFst tFst tFst tFst tFst
  have b0 : w * 16 + (0 : Int) = w * 16 + ((0 : Nat) : Int) := by omega
  have b1 : w * 16 + ((0 : Int) + 1) = w * 16 + ((1 : Nat) : Int) := by omega
  have b2 : w * 16 + ((0 : Int) + 1 + 1) = w * 16 + ((2 : Nat) : Int) := by omega
  have b3 : w * 16 + ((0 : Int) + 1 + 1 + 1) = w * 16 + ((3 : Nat) : Int) := by omega
  have lt : decide ((-1 : Int) < p) = true := decide_eq_true (by omega)
  simp only [b0, b1, b2, b3, a0.1, a1.1, a2.1, a3.1, a0.2.2, a1.2.2, a2.2.2, a3.2.2, lt, Bool.and_true, decide_eq_true_eq]
  rfl
theorem rR0 {B : Int → Nat} {o : Int} : rowL B o 0 = [] := rfl
/-- all that the invariant asks, of a reader and its new unit -/
theorem TI_0 (pt : PT v (R 0) (R 1) (R 2) S) (un : UNi v (R 3) n K O 4) (hO : O 0 = none ∧ O 1 = some (K 0) ∧ O 2 = some (K 1) ∧ O 3 = some (K 0)) (hR4 : R 4 = n ∧ R 5 = n + 1 ∧ R 6 = n + 2 ∧ R 7 = n + 3 ∧ R 8 = n + 4 ∧ R 9 = n + 5) (hA : ∀ j : Nat, j < 4 → A 0 j = K j) (r7 : hR v.1 (R 0) 7 = some (R 3)) (r9 : hI v.1 (R 0) 9 = iI 0)
    (rl : (hR v.1 (R 0) 10 = some (R 10) ∧ hR v.1 (R 0) 11 = some (R 11) ∧ hR v.1 (R 0) 12 = some (R 12) ∧ hR v.1 (R 0) 13 = some (R 13) ∧ hR v.1 (R 0) 17 = some (R 14)) ∧ ∀ i, 10 ≤ i → i ≤ 14 → hK v.1 (R i) = 4 ∧ vLs v (R i) = [] ∧ R i < n) (rd : R 10 ≠ R 11 ∧ R 10 ≠ R 12 ∧ R 10 ≠ R 13 ∧ R 10 ≠ R 14 ∧ R 11 ≠ R 12 ∧ R 11 ≠ R 13 ∧ R 11 ≠ R 14 ∧ R 12 ≠ R 13 ∧ R 12 ≠ R 14 ∧ R 13 ≠ R 14)
    (hT : T (R 4) = 6 ∧ T (R 6) = 6 ∧ (∀ i, 8 ≤ i → i ≤ 14 → T (R i) = 3)) (tg : TG v T ∧ TZ v T) (px : PX w S U) (cl : CLR w U) (s55 : S 55 0 = 0) (p47 : 0 ≤ S 47 0) : TI R A T w 0 v S U := by
  obtain ⟨⟨⟨ku, q0, q1, q2, q3, q4, q5⟩, k0, k1, k2, k3, k4, k5⟩, ls, m1, m2, kk, ⟨e2, e4, e5, p5⟩, e3⟩ := un
  obtain ⟨c4, c5, c6, c7, c8, c9⟩ := hR4
  obtain ⟨⟨u3, u9, u19, u40⟩, uk⟩ := id cl
  have noS : ∀ s, ¬ As w U s := fun s hs => by have := hs.1; have := hs.2; omega
  have noB : ∀ b, ¬ Ab w U b := fun b hb => by have := hb.1; have := hb.2; omega
  have stn : ∀ p, stL U w p = [] := fun p => by unfold stL; rw [u19]; rfl
  have kA : ∀ k, 0 ≤ k → k < U 3 w → A 0 k = K k.toNat := fun k h0 h1 => by
    have := hA k.toNat (by omega)
    rw [show ((k.toNat : Nat) : Int) = k by omega] at this
    exact this
  have inj : ∀ t, okK t → ∀ j, j < 4 → (wN (cT j) = wN t ↔ cT j = t) := fun t ht j hj => wN_inj (cT_ok j hj).1.2 ht.2
  have mp : ∀ t, okK t → ∀ p, 0 ≤ p → vMp v (R 5) t = optA (A 0) (kO U w (wN t) p) := fun t ht p hp => by
    rw [kO4 cl hp, c5]
    by_cases z0 : cT 0 = t
    · rw [if_pos ((inj t ht 0 (by omega)).mpr z0), ← z0, m1 0 (by omega)]
      show some (K 0) = some (A 0 ((0 : Nat) : Int))
      rw [hA 0 (by omega)]
    · rw [if_neg (fun y => z0 ((inj t ht 0 (by omega)).mp y))]
      by_cases z1 : cT 1 = t
      · rw [if_pos ((inj t ht 1 (by omega)).mpr z1), ← z1, m1 1 (by omega)]
        show some (K 1) = some (A 0 ((1 : Nat) : Int))
        rw [hA 1 (by omega)]
      · rw [if_neg (fun y => z1 ((inj t ht 1 (by omega)).mp y))]
        by_cases z2 : cT 2 = t
        · rw [if_pos ((inj t ht 2 (by omega)).mpr z2), ← z2, m1 2 (by omega)]
          show some (K 2) = some (A 0 ((2 : Nat) : Int))
          rw [hA 2 (by omega)]
        · rw [if_neg (fun y => z2 ((inj t ht 2 (by omega)).mp y))]
          by_cases z3 : cT 3 = t
          · rw [if_pos ((inj t ht 3 (by omega)).mpr z3), ← z3, m1 3 (by omega)]
            show some (K 3) = some (A 0 ((3 : Nat) : Int))
            rw [hA 3 (by omega)]
          · rw [if_neg (fun y => z3 ((inj t ht 3 (by omega)).mp y)), m2 t (fun j hj => by
              have : j = 0 ∨ j = 1 ∨ j = 2 ∨ j = 3 := by omega
              rcases this with rfl | rfl | rfl | rfl
              · exact fun y => z0 y.symm
              · exact fun y => z1 y.symm
              · exact fun y => z2 y.symm
              · exact fun y => z3 y.symm)]
            rfl
  have a7 : ∀ k, 0 ≤ k → k < U 3 w → hK v.1 (A 0 k) = 7 := fun k h0 h1 => by
    rw [kA k h0 h1]
    exact (kk k.toNat (by omega)).1
  have kmp : KMp v (R 5) (A 0) U w 0 := ⟨fun t ht _ p hp => mp t ht p hp, a7, by rw [c5]; exact k1, by omega⟩
  have il : ∀ i, 10 ≤ i → i ≤ 14 → IL v (R i) [] := fun i h1 h2 => ⟨(rl.2 i h1 h2).1, by rw [(rl.2 i h1 h2).2.1]; rfl, fun j hj => by simp at hj⟩
  have ln : ∀ i, 10 ≤ i → i ≤ 14 → R i < n := fun i h1 h2 => (rl.2 i h1 h2).2.2
  have l10 := ln 10 (by omega) (by omega)
  have l11 := ln 11 (by omega) (by omega)
  have l12 := ln 12 (by omega) (by omega)
  have l13 := ln 13 (by omega) (by omega)
  have l14 := ln 14 (by omega) (by omega)
  have gl : GL R A T w v U := by
    refine ⟨⟨by rw [c8]; exact q4, by rw [c8]; exact k4, by rw [c8, e4, u19]; rfl⟩, ⟨rl.1.1, (rl.2 10 (by omega) (by omega)).1, ?_⟩, ⟨rl.1.2.1, ?_⟩, ⟨rl.1.2.2.1, (rl.2 12 (by omega) (by omega)).1, ?_⟩, ⟨rl.1.2.2.2.1, (rl.2 13 (by omega) (by omega)).1, ?_⟩, ⟨rl.1.2.2.2.2, ?_⟩, ⟨hT.2.2 8 (by omega) (by omega), hT.2.2 9 (by omega) (by omega), hT.2.2 10 (by omega) (by omega), hT.2.2 11 (by omega) (by omega), hT.2.2 12 (by omega) (by omega), hT.2.2 13 (by omega) (by omega), hT.2.2 14 (by omega) (by omega)⟩, ?_, rd⟩
    · rw [stn, (rl.2 10 (by omega) (by omega)).2.1]; rfl
    · rw [stn]; exact il 11 (by omega) (by omega)
    · rw [stn, (rl.2 12 (by omega) (by omega)).2.1]; rfl
    · rw [stn, (rl.2 13 (by omega) (by omega)).2.1]; rfl
    · rw [stn]; exact il 14 (by omega) (by omega)
    · rw [c8, c9]
      omega
  have ml : ML v (R 9) (insA [] []) := by
    refine ⟨⟨[], ⟨by rw [c9]; exact k5, by rw [c9, e5]; rfl, fun e he => by simp at he⟩, rfl⟩, ?_⟩
    rw [c9, p5]
    exact Nat.zero_le _
  have mpar : mPar U w = [] := by
    unfold mPar
    rw [u3, u9, u19]
    rfl
  have rk : RK v (R 3) (R 4) U w (A 0) := by
    refine ⟨ku, by rw [c4]; exact q0, by rw [c4]; exact k0, ?_, fun k h0 h1 => ?_⟩
    · rw [c4, ls, u3]
      unfold rowL
      apply List.map_congr_left
      intro j hj
      have := List.mem_range.mp hj
      show some (K j) = some (A 0 (0 + (j : Int)))
      rw [Int.zero_add, hA j (by omega)]
    · obtain ⟨a1, a2, a3, a4⟩ := kk k.toNat (by omega)
      have ek : ((k.toNat : Nat) : Int) = k := by omega
      have u5 := (uk k.toNat (by omega)).2.1
      rw [ek] at a2 u5
      rw [kA k h0 h1]
      refine ⟨a1, a2, by rw [u5]; exact a4, ?_⟩
      rw [a3]
      have : k = 0 ∨ k = 1 ∨ k = 2 ∨ k = 3 := by omega
      rcases this with rfl | rfl | rfl | rfl
      · exact hO.1
      · show O 1 = some (A 0 ((0 : Nat) : Int))
        rw [hA 0 (by omega)]; exact hO.2.1
      · show O 2 = some (A 0 ((1 : Nat) : Int))
        rw [hA 1 (by omega)]; exact hO.2.2.1
      · show O 3 = some (A 0 ((0 : Nat) : Int))
        rw [hA 0 (by omega)]; exact hO.2.2.2
  have kl5 : KL v (R 5) (U 3 w) := by
    refine ⟨[cT 0, cT 1, cT 2, cT 3], by rw [u3]; decide, fun s z hz => ?_⟩
    rw [c5] at hz
    have : ∃ j, j < 4 ∧ s = cT j := Classical.byContradiction fun y => by
      rw [m2 s (fun j hj e => y ⟨j, hj, e⟩)] at hz
      cases hz
    obtain ⟨j, hj, e⟩ := this
    have q : j = 0 ∨ j = 1 ∨ j = 2 ∨ j = 3 := by omega
    rw [e]
    refine ⟨?_, (cT_ok j hj).1, ?_⟩
    · rcases q with rfl | rfl | rfl | rfl <;> simp
    · rcases q with rfl | rfl | rfl | rfl <;> decide
  have mt : MT R A T w v U (fun _ => none) := by
    refine ⟨⟨by rw [c6]; exact q2, by rw [c6]; exact k2, by rw [c6, e2, u9]; rfl⟩, ⟨by rw [c7]; exact q3, ⟨by rw [c7]; exact k3, fun t ht => ?_⟩, ⟨[], by rw [u9]; decide, fun s z hz => ?_⟩⟩, ⟨hT.1, hT.2.1, by omega, by omega⟩, fun m h0 h1 => by omega⟩
    · rw [c7, e3]
      unfold mO
      rw [u9]
      rfl
    · rw [c7, e3] at hz
      cases hz
  exact ⟨⟨pt, ⟨pt.2.2.2.2.1, r7, ku, by rw [c5]; exact q1, by rw [c5]; exact k1, by rw [c9]; exact q5⟩, kmp, p47, tg, gl, ⟨r9, s55⟩, ⟨[], ml, by rw [mpar]⟩, fun s hs => (noS s hs).elim, fun s hs => (noS s hs).elim, fun b hb => (noB b hb).elim, fun s hs => (noS s hs).elim, fun c hc => (noS _ hc).elim, fun c d hc => (noS _ hc).elim, fun s t hs => (noS s hs).elim⟩, rk, kl5, mt, px⟩
end TI0
