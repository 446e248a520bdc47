/-! PURE: an order in which what can be thrown may be found *-/
def vB (U : tSt) (g : Int → Int) : Nat → Int → Int
  | 0, _ => 0
  | d + 1, b => (if U 41 b = 0 then 19683 else vB U g d (U 22 (U 42 b))) - (if U 41 b = 5 then 2 else 1) * ((3 ^ (9 - g b).toNat : Nat) : Int)
section RNK
variable {w b s : Int} {S U : tSt} {g : Int → Int} {l : Int → Int}
/-- the depths of blocks -/
def ZG (w : Int) (g : Int → Int) (U : tSt) : Prop := ∀ b, Ab w U b → 1 ≤ g b ∧ g b ≤ 8 ∧ (U 41 b ≠ 0 → g b = g (U 22 (U 42 b)) + 1)
theorem par_ab (pw : PW w U) (hb : Ab w U b) (h : U 41 b ≠ 0) : As w U (U 42 b) ∧ Ab w U (U 22 (U 42 b)) := by
  rcases (pw.2 b hb).1 with ⟨y, _⟩ | ⟨_, y, _⟩
  · exact absurd y h
  · exact ⟨y, pw.1 _ y⟩
theorem vB_s (zg : ZG w g U) (pw : PW w U) : ∀ (d : Nat) (b : Int), Ab w U b → g b ≤ d → vB U g (d + 1) b = vB U g d b := by
  intro d
  induction d with
  | zero => intro b hb h; have := (zg b hb).1; omega
  | succ d ih =>
    intro b hb h
    have e1 : vB U g (d + 1 + 1) b = (if U 41 b = 0 then 19683 else vB U g (d + 1) (U 22 (U 42 b))) - (if U 41 b = 5 then 2 else 1) * ((3 ^ (9 - g b).toNat : Nat) : Int) := rfl
    have e2 : vB U g (d + 1) b = (if U 41 b = 0 then 19683 else vB U g d (U 22 (U 42 b))) - (if U 41 b = 5 then 2 else 1) * ((3 ^ (9 - g b).toNat : Nat) : Int) := rfl
    rw [e1, e2]
    by_cases z : U 41 b = 0
    · rw [if_pos z, if_pos z]
    · have h3 := (zg b hb).2.2 z
      rw [if_neg z, if_neg z, ih _ (par_ab pw hb z).2 (by omega)]
/-- the value of a block -/
def vv (U : tSt) (g : Int → Int) (b : Int) : Int := vB U g 8 b
def lo (U : tSt) (g : Int → Int) (b : Int) : Int := vv U g b - ((3 ^ (9 - g b).toNat : Nat) : Int)
theorem vv_e (zg : ZG w g U) (pw : PW w U) (hb : Ab w U b) : vv U g b = (if U 41 b = 0 then 19683 else vv U g (U 22 (U 42 b))) - (if U 41 b = 5 then 2 else 1) * ((3 ^ (9 - g b).toNat : Nat) : Int) := by
  unfold vv
  have g8 := (zg b hb).2.1
  have e : vB U g 8 b = vB U g 9 b := (vB_s zg pw 8 b hb g8).symm
  rw [e, vB]
theorem pow3 {k : Int} (h1 : 1 ≤ k) (h2 : k ≤ 8) : (3 ^ (9 - k).toNat : Nat) = 3 * 3 ^ (9 - (k + 1)).toNat ∧ 1 ≤ (3 ^ (9 - (k + 1)).toNat : Nat) := by
  refine ⟨?_, Nat.pow_pos (by decide)⟩
  rw [show (9 - k).toNat = (9 - (k + 1)).toNat + 1 by omega, Nat.pow_succ, Nat.mul_comm]
theorem lo_up (zg : ZG w g U) (pw : PW w U) (hb : Ab w U b) (h : U 41 b ≠ 0) : lo U g (U 22 (U 42 b)) ≤ lo U g b ∧ vv U g b < vv U g (U 22 (U 42 b)) := by
  have e := vv_e zg pw hb
  have h3 := (zg b hb).2.2 h
  have pa := (par_ab pw hb h).2
  have g1 := zg _ pa
  have p := pow3 g1.1 g1.2.1
  unfold lo
  rw [if_neg h] at e
  rw [e, p.1, h3]
  have p1 := p.2
  generalize (3 ^ (9 - (g (U 22 (U 42 b)) + 1)).toNat : Nat) = x at *
  split <;> omega
theorem lo_0 (zg : ZG w g U) (pw : PW w U) : ∀ (d : Nat) (b : Int), Ab w U b → g b ≤ d → 0 ≤ lo U g b := by
  intro d
  induction d with
  | zero => intro b hb h; have := (zg b hb).1; omega
  | succ d ih =>
    intro b hb h
    have g1 := zg b hb
    by_cases z : U 41 b = 0
    · unfold lo
      rw [vv_e zg pw hb, if_pos z, if_neg (by omega)]
      have : (3 ^ (9 - g b).toNat : Nat) ≤ 3 ^ 8 := Nat.pow_le_pow_right (by decide) (by omega)
      have e : (3 ^ 8 : Nat) = 6561 := by decide
      omega
    · have h3 := g1.2.2 z
      exact Int.le_trans (ih _ (par_ab pw hb z).2 (by omega)) (lo_up zg pw hb z).1
theorem vv_lo (zg : ZG w g U) (hb : Ab w U b) : lo U g b < vv U g b := by
  unfold lo
  have : 1 ≤ (3 ^ (9 - g b).toNat : Nat) := Nat.pow_pos (by decide)
  omega
/-- the parameter of a name: a catch around -/
theorem tPO_lo (zg : ZG w g U) (pw : PW w U) (w0 : 0 ≤ w) (x : Int) : ∀ (d : Nat) (b : Int) (p : Bool), b = -1 ∨ Ab w U b → (tPO U x d b p).1 ≠ -1 → b ≠ -1 ∧ ∃ k, Ab w U k ∧ U 41 k = 6 ∧ (tPO U x d b p).1 = 4 * U 42 k + U 43 k ∧ lo U g k ≤ lo U g b := by
  intro d
  induction d with
  | zero => intro b p _ h; exact absurd rfl h
  | succ d ih =>
    intro b p hb h
    rw [tPO] at h ⊢
    by_cases z : b = -1
    · rw [if_pos z] at h
      exact absurd rfl h
    · rw [if_neg z] at h ⊢
      have hb' := hb.resolve_left z
      refine ⟨z, ?_⟩
      by_cases q : U 41 b = 6 ∧ U 35 (4 * U 42 b + U 43 b) = x
      · rw [if_pos q] at h ⊢
        exact ⟨b, hb', q.1, rfl, Int.le_refl _⟩
      · rw [if_neg q] at h ⊢
        by_cases o : U 42 b = -1
        · rw [if_pos o] at h ⊢
          exact absurd rfl (ih (-1) _ (Or.inl rfl) h).1
        · rw [if_neg o] at h ⊢
          have r0 : U 41 b ≠ 0 := fun z0 => by
            rcases (pw.2 b hb').1 with ⟨_, y⟩ | ⟨y, _⟩
            · exact o y
            · omega
          obtain ⟨_, k, k1, k2, k3, k4⟩ := ih _ _ (Or.inr (par_ab pw hb' r0).2) h
          exact ⟨k, k1, k2, k3, Int.le_trans k4 (lo_up zg pw hb' r0).1⟩
/-- a block of a statement is worth less than the block around -/
theorem vv_in (zg : ZG w g U) (pw : PW w U) (bo' : bo w U s b) : vv U g b < vv U g (U 22 s) := by
  have := (lo_up zg pw bo'.1 bo'.2.2).2
  rw [bo'.2.1] at this
  exact this
theorem can_dep (pz : PZ w S U) (zg : ZG w g U) (pq : PQ w U) (qv : QV U) (w0 : 0 ≤ w) {c c' : Int → Int} (hs : As w U s) (h : ∀ t, As w U t → vv U g (U 22 t) < vv U g (U 22 s) → c t = c' t) : can U w c l s = can U w c' l s := by
  obtain ⟨za, zb, zc, zd, _⟩ := pz
  have pw := pq.pw
  have b19 := QV_b qv (f := 19) (c := 120) rfl rfl rfl w
  obtain ⟨y1, y2, y3, y4⟩ := zb s hs
  obtain ⟨_, _, _, _, p27, p28, p29, p34⟩ := pq.1 s hs
  have B : ∀ k, (k = -1 ∨ bo w U s k) → bC U w c k = bC U w c' k := fun k hk => by
    rcases hk with e | e
    · exact bC_cg zd (Or.inl e) w0 b19 (fun t ht e2 => by have := (pw.1 t ht).1; omega)
    · exact bC_cg zd (Or.inr e.1) w0 b19 (fun t ht e2 => h t ht (by rw [e2]; exact vv_in zg pw e))
  have b27 := B (U 27 s) (by by_cases z : U 27 s = -1; exact Or.inl z; exact Or.inr (y1 z).1)
  have b28 := B (U 28 s) (by by_cases z : U 28 s = -1; exact Or.inl z; exact Or.inr (y2 z).1)
  have b29 := B (U 29 s) (by by_cases z : U 29 s = -1; exact Or.inl z; exact Or.inr (y3 z).1)
  have b34 : ∀ k, 0 ≤ k → k < U 33 s → bC U w c (U 34 (4 * s + k)) = bC U w c' (U 34 (4 * s + k)) := fun k k0 k1 => B _ (Or.inr (y4 k k0 k1).1)
  unfold can
  by_cases q1 : U 20 s = 1
  · rw [if_pos q1, if_pos q1]
    unfold cld
    rw [b27]
  · rw [if_neg q1, if_neg q1]
    by_cases q2 : U 20 s = 2
    · rw [if_pos q2, if_pos q2]
      unfold thn
      by_cases z : (pO U (U 25 s) (U 22 s)).1 = -1
      · rw [if_pos z, if_pos z]
      · rw [if_neg z, if_neg z]
        have ab := (pq.1 s hs).1
        obtain ⟨_, k, k1, k2, k3, k4⟩ := tPO_lo zg pw w0 (U 25 s) _ _ false (Or.inr ab) z
        have ka := par_ab pw k1 (by omega)
        have k43 := (pw.2 k k1).2 k2
        have b33 := QV_b qv (f := 33) (c := 4) rfl rfl rfl (U 42 k)
        have e4 : (pO U (U 25 s) (U 22 s)).1 / 4 = U 42 k := by
          unfold pO
          rw [k3]
          omega
        have bt : bC U w c (U 27 (U 42 k)) = bC U w c' (U 27 (U 42 k)) := by
          by_cases z27 : U 27 (U 42 k) = -1
          · exact bC_cg zd (Or.inl z27) w0 b19 (fun t ht e2 => by
              have := (pw.1 t ht).1
              omega)
          · obtain ⟨f1, f2, f3, f4⟩ := (zb _ ka.1).1 z27
            have r9 := ((za k k1).2 (by omega)).2
            have r5 := ((za _ f1.1).2 f1.2.2).2
            rw [f1.2.1] at r5
            have r55 : U 41 (U 27 (U 42 k)) = 5 := by unfold rsO at r9 r5; omega
            refine bC_cg zd (Or.inr f1.1) w0 b19 (fun t ht e2 => h t ht ?_)
            have v1 := vv_e zg pw f1.1
            have v2 := vv_e zg pw k1
            have g1 := (zg _ f1.1).2.2 f1.2.2
            have g2 := (zg _ k1).2.2 (by omega)
            rw [f1.2.1] at g1 v1
            rw [if_neg f1.2.2, if_pos r55, g1] at v1
            rw [if_neg (by omega), if_neg (by omega), g2] at v2
            have lk : lo U g k = vv U g (U 27 (U 42 k)) := by
              unfold lo
              rw [v1, v2, g2]
              omega
            have vl := vv_lo zg ab
            rw [e2]
            omega
        split
        · rfl
        · unfold agn ins
          rw [e4, bt]
    · rw [if_neg q2, if_neg q2]
      by_cases q4 : U 20 s = 4 ∨ U 20 s = 5 ∨ U 20 s = 6 ∨ U 20 s = 11
      · rw [if_pos q4, if_pos q4, b27, b28]
      · rw [if_neg q4, if_neg q4]
        by_cases q9 : U 20 s = 9
        · rw [if_pos q9, if_pos q9]
          unfold trd
          have i : ins U w c s = ins U w c' s := by unfold ins; rw [b27]
          have m : trM U w c s = trM U w c' s := by
            unfold trM
            exact tFor_cg _ _ _ (fun k z k0 k1 => by rw [b34 k k0 (by omega)])
          rw [i, m, b29]
        · rw [if_neg q9, if_neg q9]
/-- there is an order -/
theorem Sdep_ex (pz : PZ w S U) (pq : PQ w U) (qv : QV U) (w0 : 0 ≤ w) : ∃ ρ, Sdep U w l (U 19 w).toNat ρ := by
  obtain ⟨_, _, _, _, g, zg, _⟩ := id pz
  have zg : ZG w g U := zg
  have pw := pq.pw
  refine ⟨fun e => (vv U g (U 22 (w * 120 + e))).toNat, fun c c' d hd h => ?_⟩
  have b19 := QV_b qv (f := 19) (c := 120) rfl rfl rfl w
  have hs : As w U (w * 120 + d) := ⟨by omega, by omega⟩
  refine can_dep pz zg pq qv w0 hs (fun t ht lt => ?_)
  have h1 := ht.1
  have h2 := ht.2
  have := h (t - w * 120).toNat (by omega) (by
    show (vv U g (U 22 (w * 120 + ((t - w * 120).toNat : Int)))).toNat < (vv U g (U 22 (w * 120 + d))).toNat
    rw [show w * 120 + ((t - w * 120).toNat : Int) = t by omega]
    have a := pw.1 t ht
    have x1 := vv_lo zg a
    have x2 := lo_0 zg pw 8 _ a (by have := (zg _ a).2.1; omega)
    omega)
  rw [show w * 120 + ((t - w * 120).toNat : Int) = t by omega] at this
  exact this
end RNK
