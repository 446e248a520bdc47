/-! COMPONENT, 120: thrown of a throw *-/
section JT3
variable {R : Nat → Nat} {A : Nat → Int → Nat} {T : Nat → Nat} {w p0 s d cc : Int} {U : tSt} {c l g : Int → Int} {L0 X Z : List tMi} {v0 v v' : vT} {Nd N Bs : List Int} {r : Nat} {h : am_H} {Q : am_O → am_H → Prop}
theorem tPO_pin (w0 : 0 ≤ w) (pw : PW w U) {x : Int} : ∀ (n : Nat) (b : Int) (p : Bool), (b = -1 ∨ Ab w U b) → (tPO U x n b p).1 ≠ -1 → ∃ k, Ab w U k ∧ anc U b k ∧ U 41 k = 6 ∧ (tPO U x n b p).1 = 4 * U 42 k + U 43 k := by
  intro n
  induction n with
  | zero => intro b p _ h; exact (h rfl).elim
  | succ n ih =>
    intro b p hb h
    rw [tPO] at h ⊢
    by_cases e : b = -1
    · rw [if_pos e] at h; exact (h rfl).elim
    · rw [if_neg e] at h ⊢
      have hb := hb.resolve_left e
      by_cases q : U 41 b = 6 ∧ U 35 (4 * U 42 b + U 43 b) = x
      · rw [if_pos q]
        exact ⟨b, hb, anc_rf, q.1, rfl⟩
      · rw [if_neg q] at h ⊢
        rcases (pw.2 b hb).1 with ⟨y1, y2⟩ | ⟨y1, y2, y3⟩
        · rw [if_pos y2] at h
          cases n with
          | zero => exact (h rfl).elim
          | succ n =>
            rw [tPO, if_pos rfl] at h
            exact (h rfl).elim
        · have o := par_ab pw hb (by omega)
          have ne : U 42 b ≠ -1 := fun y => by
            rw [y] at y2
            have := y2.1
            omega
          rw [if_neg ne] at h ⊢
          obtain ⟨k, k1, k2, k3, k4⟩ := ih _ _ (Or.inr o.2) h
          exact ⟨k, k1, anc_tr ⟨1, by omega, rfl⟩ k2, k3, k4⟩
theorem th_32 (j : JP w g U c l) (hs : As w U s) (e : U 20 s = 2) : JTh r 228 R A T w p0 U c l L0 Nd X s := by
  intro h v Q cr jk q
  have pw := j.pw
  have qw := j.2.1.2.2.1
  have w0 := j.2.1.2.2.2.1
  have n3 := qw.1
  have e9 : U 20 s ≠ 9 := by omega
  have gx := jk.gx
  have kx : KX h v (R 3) (R 4) U w (A 0) := ⟨cr, gx.1.1, qw⟩
  obtain ⟨ku, ru, _, kk, sz, gt, kl⟩ := kx.raw
  have ce : c s = thn U w c s := by
    have := (j.2.2.1 s hs).2.1
    unfold can at this
    rw [if_neg (by omega), if_pos e] at this
    exact this
  have m0 : mJ0 U w c s = [] := by
    unfold mJ0
    rw [if_neg (by omega), if_neg (by omega), if_neg (by omega), if_neg (by omega)]
  have fin := q h v [] [] cr (by rw [m0]; exact jk) (fun d hd => (n27 j hs (by omega) d hd).elim) (fun y => absurd y e9)
  rw [ce] at fin
  unfold thn at fin
  have cb := kO_b (U := U) (w := w) (x := U 25 s) (a := U 26 s) n3
  have pin := tPO_pin (U := U) (x := U 25 s) w0 pw (U 22 s + 2).toNat (U 22 s) false (Or.inr (pw.1 s hs))
  obtain ⟨k1, k5, k6⟩ : hK v.1 (A 2 s) = 32 ∧ hR v.1 (A 2 s) 5 = optA (A 4) (pO U (U 25 s) (U 22 s)).1 ∧ hR v.1 (A 2 s) 6 = if (pO U (U 25 s) (U 22 s)).1 = -1 then optA (A 0) (kO U w (U 25 s) (U 26 s)) else none := by
    obtain ⟨_, _, _, f2, _⟩ := gx.fs hs
    exact f2 e
  change (pO U (U 25 s) (U 22 s)).1 ≠ -1 → _ at pin
  rw [eX16_thrown, sX16_thrown_0, sX16_thrown_1 (cr.kk k1 (by decide)), cr.rr k1 rfl, k5, sX16_thrown_4]
  by_cases z : (pO U (U 25 s) (U 22 s)).1 = -1
  · rw [if_pos z] at fin k6
    rw [z, optA_n, if_pos rfl, sX16_thrown_18, sX16_thrown_19 (cr.kk k1 (by decide)), cr.rr k1 rfl, k6, sX16_thrown_22]
    by_cases y : kO U w (U 25 s) (U 26 s) = -1
    · rw [y] at fin
      rw [y, optA_n, if_neg (fun x => x rfl), sX16_thrown_25, sX16_thrown_26, sX16_thrown_38]
      exact fin
    · obtain ⟨a1, a2, _⟩ := kk (kO U w (U 25 s) (U 26 s)) (by omega) cb.2
      have es : (1 : Int32) <<< (iI (kO U w (U 25 s) (U 26 s)) &&& 31) = iI (sBit (kO U w (U 25 s) (U 26 s))) := iI_shl (by omega) (by omega)
      rw [optA_s y, if_pos (by simp), sX16_thrown_29, sX16_thrown_30, sX16_thrown_31 (cr.kk k1 (by decide)), cr.rr k1 rfl, k6, optA_s y, sX16_thrown_34 a1, a2, sX16_thrown_37, es, sX16_thrown_38]
      unfold sOnly at fin
      rw [if_neg y] at fin
      exact fin
  · rw [if_neg z] at fin
    obtain ⟨k, kA, ka, k6', kc⟩ := pin z
    have o := par_ab pw kA (by omega)
    have b43 := (pw.2 k kA).2 k6'
    have b33 := QV_b j.2.1.2.1 (f := 33) (c := 4) rfl rfl rfl (U 42 k)
    change (pO U (U 25 s) (U 22 s)).1 = _ at kc
    generalize (pO U (U 25 s) (U 22 s)).1 = cc at *
    have d4 : cc / 4 = U 42 k := by omega
    have s9 : U 20 (U 42 k) = 9 := by
      have := ((j.1.1 k kA).2 (by omega)).2
      unfold rsO at this
      omega
    have hc : As w U (cc / 4) ∧ cc % 4 < U 33 (cc / 4) := by rw [d4]; exact ⟨o.1, by omega⟩
    have kcc := (CFx gx hc).1.1
    rw [optA_s z, if_neg (by simp), sX16_thrown_7, sX16_thrown_8 (cr.kk k1 (by decide)), cr.rr k1 rfl, k5, optA_s z, sX16_thrown_11, sX16_thrown_12 (cr.kk kcc (by decide))]
    refine c_again j cr gx hc (by rw [d4]; exact s9) (by rw [d4]; exact jk.2.2.2.2.2.2.2 k kA ka k6') ?_
    rw [Kt_v, sX16_thrown_15, sX16_thrown_38]
    exact fin
end JT3
