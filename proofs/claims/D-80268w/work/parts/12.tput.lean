/-! THE TWIN's STATE, laid over a heap; printed by gen_twin.py. S: scalars (S f 0) and single arrays; U: arrays of two halves; f: the field's number -/
def up (U : Nat → Int → Int) (f : Nat) (j x : Int) : Nat → Int → Int := fun g i => if g = f ∧ i = j then x else U g i
theorem up_eq (U : Nat → Int → Int) (f g : Nat) (j i x : Int) : up U f j x g i = if g = f ∧ i = j then x else U g i := rfl
def tF : Nat → Nat
  | 1 => 0
  | 2 => 3
  | 3 => 4
  | 4 => 5
  | 5 => 6
  | 6 => 7
  | 7 => 8
  | 8 => 9
  | 9 => 10
  | 10 => 11
  | 11 => 12
  | 12 => 13
  | 13 => 14
  | 14 => 15
  | 15 => 16
  | 16 => 17
  | 17 => 18
  | 18 => 19
  | 19 => 20
  | 20 => 21
  | 21 => 22
  | 22 => 23
  | 23 => 24
  | 24 => 25
  | 25 => 26
  | 26 => 27
  | 27 => 28
  | 28 => 29
  | 29 => 30
  | 30 => 31
  | 31 => 32
  | 32 => 33
  | 33 => 34
  | 34 => 35
  | 35 => 36
  | 36 => 37
  | 37 => 38
  | 38 => 39
  | 39 => 40
  | 40 => 41
  | 41 => 42
  | 42 => 43
  | 43 => 44
  | 44 => 45
  | 45 => 46
  | 46 => 56
  | 47 => 58
  | 48 => 59
  | 49 => 61
  | 50 => 62
  | 51 => 63
  | 52 => 70
  | 53 => 71
  | 54 => 72
  | 55 => 73
  | 56 => 74
  | _ => 99
def tH : Nat → Nat
  | 3 => 1
  | 4 => 16
  | 5 => 16
  | 6 => 16
  | 7 => 16
  | 8 => 16
  | 9 => 1
  | 10 => 12
  | 11 => 12
  | 12 => 12
  | 13 => 12
  | 14 => 12
  | 15 => 12
  | 16 => 48
  | 17 => 48
  | 18 => 12
  | 19 => 1
  | 20 => 120
  | 21 => 120
  | 22 => 120
  | 23 => 120
  | 24 => 120
  | 25 => 120
  | 26 => 120
  | 27 => 120
  | 28 => 120
  | 29 => 120
  | 30 => 120
  | 31 => 480
  | 32 => 480
  | 33 => 120
  | 34 => 480
  | 35 => 480
  | 36 => 480
  | 37 => 480
  | 38 => 1920
  | 39 => 1920
  | 40 => 1
  | 41 => 1024
  | 42 => 1024
  | 43 => 1024
  | 44 => 1024
  | 45 => 1024
  | 46 => 1024
  | _ => 0
def tJ : Nat → Bool
  | 4 => true
  | 7 => true
  | 10 => true
  | 12 => true
  | 16 => true
  | 25 => true
  | 31 => true
  | 35 => true
  | 38 => true
  | 50 => true
  | 53 => true
  | 64 => true
  | _ => false
/-- a scalar -/
def tC : Nat → Bool
  | 1 => true
  | 2 => true
  | 47 => true
  | 48 => true
  | 49 => true
  | 50 => true
  | 51 => true
  | 52 => true
  | 53 => true
  | 54 => true
  | 55 => true
  | 57 => true
  | 60 => true
  | 64 => true
  | 65 => true
  | 66 => true
  | 67 => true
  | 68 => true
  | 69 => true
  | _ => false
def tK : Nat → Nat
  | 3 => 42
  | 6 => 42
  | 9 => 42
  | 11 => 42
  | 13 => 43
  | 15 => 42
  | 24 => 42
  | 30 => 42
  | 34 => 42
  | 37 => 42
  | 48 => 43
  | _ => 40
def tL : Nat → Nat
  | 1 => 2000
  | 2 => 2
  | 3 => 32
  | 4 => 32
  | 5 => 32
  | 6 => 32
  | 7 => 32
  | 8 => 2
  | 9 => 24
  | 10 => 24
  | 11 => 24
  | 12 => 24
  | 13 => 24
  | 14 => 24
  | 15 => 96
  | 16 => 96
  | 17 => 24
  | 18 => 2
  | 19 => 240
  | 20 => 240
  | 21 => 240
  | 22 => 240
  | 23 => 240
  | 24 => 240
  | 25 => 240
  | 26 => 240
  | 27 => 240
  | 28 => 240
  | 29 => 240
  | 30 => 960
  | 31 => 960
  | 32 => 240
  | 33 => 960
  | 34 => 960
  | 35 => 960
  | 36 => 960
  | 37 => 3840
  | 38 => 3840
  | 39 => 2
  | 40 => 2048
  | 41 => 2048
  | 42 => 2048
  | 43 => 2048
  | 44 => 2048
  | 45 => 2048
  | 46 => 9
  | 47 => 240
  | 48 => 240
  | 49 => 4000
  | 50 => 4000
  | 51 => 4000
  | 52 => 16
  | 53 => 16
  | 54 => 16
  | 55 => 16
  | 56 => 960
  | _ => 0
def tA : Nat → Nat
  | 0 => 1
  | 3 => 2
  | 4 => 3
  | 5 => 4
  | 6 => 5
  | 7 => 6
  | 8 => 7
  | 9 => 8
  | 10 => 9
  | 11 => 10
  | 12 => 11
  | 13 => 12
  | 14 => 13
  | 15 => 14
  | 16 => 15
  | 17 => 16
  | 18 => 17
  | 19 => 18
  | 20 => 19
  | 21 => 20
  | 22 => 21
  | 23 => 22
  | 24 => 23
  | 25 => 24
  | 26 => 25
  | 27 => 26
  | 28 => 27
  | 29 => 28
  | 30 => 29
  | 31 => 30
  | 32 => 31
  | 33 => 32
  | 34 => 33
  | 35 => 34
  | 36 => 35
  | 37 => 36
  | 38 => 37
  | 39 => 38
  | 40 => 39
  | 41 => 40
  | 42 => 41
  | 43 => 42
  | 44 => 43
  | 45 => 44
  | 46 => 45
  | 56 => 46
  | 58 => 47
  | 59 => 48
  | 61 => 49
  | 62 => 50
  | 63 => 51
  | 70 => 52
  | 71 => 53
  | 72 => 54
  | 73 => 55
  | 74 => 56
  | _ => 0
def tT (d k : Nat) : Bool := if d = 0 then tJ k else tJ (tF d)
/-- what lies at place k of the cell at m + d: none: not of this state -/
def tV (w : Int) (S U : Nat → Int → Int) (d k : Nat) : Option Int :=
  if d = 0 then (if tC k = true then some (S k 0) else none)
  else if tH (tF d) = 0 then some (S (tF d) k)
  else if (tH (tF d) : Int) * w ≤ k ∧ (k : Int) < (tH (tF d) : Int) * w + tH (tF d) then some (U (tF d) k) else none
def tpI (h : am_H) (m : Nat) (w : Int) (S U : Nat → Int → Int) (a k : Nat) : Int32 := if m ≤ a ∧ a < m + 57 ∧ tT (a - m) k = false then (match tV w S U (a - m) k with
  | some x => iI x
  | none => hI h a k) else hI h a k
def tpJ (h : am_H) (m : Nat) (w : Int) (S U : Nat → Int → Int) (a k : Nat) : Int64 := if m ≤ a ∧ a < m + 57 ∧ tT (a - m) k = true then (match tV w S U (a - m) k with
  | some x => lI x
  | none => hJ h a k) else hJ h a k
def tput (h : am_H) (m : Nat) (w : Int) (S U : Nat → Int → Int) : am_H := (h.1, h.2.1, tpI h m w S U, tpJ h m w S U, h.2.2.2.2)
section TP
variable {h : am_H} {m : Nat} {w x : Int} {S U : Nat → Int → Int} {a b k c n i l : Nat}
theorem hN_tput : hN (tput h m w S U) = hN h := rfl
theorem hS_tput : hS (tput h m w S U) = hS h := rfl
theorem hE_tput : hE (tput h m w S U) a = hE h a := rfl
theorem hK_tput : hK (tput h m w S U) a = hK h a := rfl
theorem hL_tput : hL (tput h m w S U) a = hL h a := rfl
theorem hR_tput : hR (tput h m w S U) a k = hR h a k := rfl
theorem hI_tput : hI (tput h m w S U) a k = tpI h m w S U a k := rfl
theorem hJ_tput : hJ (tput h m w S U) a k = tpJ h m w S U a k := rfl
theorem tp_rI {d : Nat} (hd : d < 57) (ht : tT d k = false) (e : tV w S U d k = some x) : hI (tput h m w S U) (m + d) k = iI x := by
  rw [hI_tput, tpI, Nat.add_sub_cancel_left, if_pos ⟨Nat.le_add_right m d, Nat.add_lt_add_left hd m, ht⟩, e]
theorem tp_rJ {d : Nat} (hd : d < 57) (ht : tT d k = true) (e : tV w S U d k = some x) : hJ (tput h m w S U) (m + d) k = lI x := by
  rw [hJ_tput, tpJ, Nat.add_sub_cancel_left, if_pos ⟨Nat.le_add_right m d, Nat.add_lt_add_left hd m, ht⟩, e]
theorem am_H_ext {h h' : am_H} (e1 : h.1 = h'.1) (e2 : h.2.1 = h'.2.1) (e3 : ∀ a k, hI h a k = hI h' a k) (e4 : ∀ a k, hJ h a k = hJ h' a k) (e5 : ∀ a k, hR h a k = hR h' a k) : h = h' := by
  obtain ⟨x1, x2, x3, x4, x5⟩ := h
  obtain ⟨y1, y2, y3, y4, y5⟩ := h'
  simp only [hI, hJ, hR] at *
  subst e1 e2
  rw [show x3 = y3 from funext fun a => funext fun k => e3 a k, show x4 = y4 from funext fun a => funext fun k => e4 a k, show x5 = y5 from funext fun a => funext fun k => e5 a k]
theorem tp_wI {d : Nat} {S' U' : Nat → Int → Int} (hd : d < 57) (ht : tT d k = false) (e : tV w S' U' d k = some x) (he : ∀ d' k', d' < 57 → ¬ (d' = d ∧ k' = k) → tV w S' U' d' k' = tV w S U d' k') : putI (tput h m w S U) (m + d) k (iI x) = tput h m w S' U' := by
  refine am_H_ext (h := putI (tput h m w S U) (m + d) k (iI x)) (h' := tput h m w S' U') rfl rfl ?_ ?_ ?_
  · intro a j
    rw [hI_putI]
    by_cases q : a = m + d ∧ j = k
    · rw [if_pos q, q.1, q.2, tp_rI hd ht e]
    · rw [if_neg q, hI_tput, hI_tput, tpI, tpI]
      by_cases z : m ≤ a ∧ a < m + 57 ∧ tT (a - m) j = false
      · rw [if_pos z, if_pos z, he (a - m) j (by omega) (fun y => q ⟨by omega, y.2⟩)]
      · rw [if_neg z, if_neg z]
  · intro a j
    rw [hJ_putI, hJ_tput, hJ_tput, tpJ, tpJ]
    by_cases z : m ≤ a ∧ a < m + 57 ∧ tT (a - m) j = true
    · have q : ¬ (a - m = d ∧ j = k) := fun y => by
        rw [y.1, y.2, ht] at z
        exact absurd z.2.2 (by decide)
      rw [if_pos z, if_pos z, he (a - m) j (by omega) q]
    · rw [if_neg z, if_neg z]
  · intro a j; rfl
theorem tp_wJ {d : Nat} {S' U' : Nat → Int → Int} (hd : d < 57) (ht : tT d k = true) (e : tV w S' U' d k = some x) (he : ∀ d' k', d' < 57 → ¬ (d' = d ∧ k' = k) → tV w S' U' d' k' = tV w S U d' k') : putJ (tput h m w S U) (m + d) k (lI x) = tput h m w S' U' := by
  refine am_H_ext (h := putJ (tput h m w S U) (m + d) k (lI x)) (h' := tput h m w S' U') rfl rfl ?_ ?_ ?_
  · intro a j
    rw [hI_putJ, hI_tput, hI_tput, tpI, tpI]
    by_cases z : m ≤ a ∧ a < m + 57 ∧ tT (a - m) j = false
    · have q : ¬ (a - m = d ∧ j = k) := fun y => by
        rw [y.1, y.2, ht] at z
        exact absurd z.2.2 (by decide)
      rw [if_pos z, if_pos z, he (a - m) j (by omega) q]
    · rw [if_neg z, if_neg z]
  · intro a j
    rw [hJ_putJ]
    by_cases q : a = m + d ∧ j = k
    · rw [if_pos q, q.1, q.2, tp_rJ hd ht e]
    · rw [if_neg q, hJ_tput, hJ_tput, tpJ, tpJ]
      by_cases z : m ≤ a ∧ a < m + 57 ∧ tT (a - m) j = true
      · rw [if_pos z, if_pos z, he (a - m) j (by omega) (fun y => q ⟨by omega, y.2⟩)]
      · rw [if_neg z, if_neg z]
  · intro a j; rfl
theorem tV_half {d f H : Nat} {j : Int} (hd : d ≠ 0) (hf : tF d = f) (hh : tH f = H) (h9 : H ≠ 0) (h0 : 0 ≤ j) (h1 : (H : Int) * w ≤ j) (h2 : j < (H : Int) * w + H) : tV w S U d j.toNat = some (U f j) := by
  unfold tV
  rw [if_neg hd, hf, hh, if_neg h9, Int.toNat_of_nonneg h0, if_pos ⟨h1, h2⟩]
theorem tV_one {d f : Nat} {j : Int} (hd : d ≠ 0) (hf : tF d = f) (hh : tH f = 0) (h0 : 0 ≤ j) : tV w S U d j.toNat = some (S f j) := by
  unfold tV
  rw [if_neg hd, hf, if_pos hh, Int.toNat_of_nonneg h0]
theorem tV_sc {f : Nat} (hc : tC f = true) : tV w S U 0 f = some (S f 0) := by
  unfold tV
  rw [if_pos rfl, if_pos hc]
theorem up_n {f g : Nat} {j : Int} (hg : g ≠ f) : up U f j x g = U g := funext fun i => if_neg (fun z => hg z.1)
theorem up_s {f : Nat} {j : Int} : up U f j x f j = x := by rw [up_eq, if_pos ⟨rfl, rfl⟩]
theorem tV_cong {S' U' : Nat → Int → Int} {d k : Nat} (e1 : d = 0 → tC k = true → S' k 0 = S k 0) (e2 : d ≠ 0 → S' (tF d) k = S (tF d) k) (e3 : d ≠ 0 → U' (tF d) k = U (tF d) k) : tV w S' U' d k = tV w S U d k := by
  unfold tV
  by_cases h0 : d = 0
  · rw [if_pos h0, if_pos h0]
    by_cases hk : tC k = true
    · rw [if_pos hk, if_pos hk, e1 h0 hk]
    · rw [if_neg hk, if_neg hk]
  · rw [if_neg h0, if_neg h0, e2 h0, e3 h0]
theorem tV_upU {d f : Nat} {j : Int} (hi : ∀ d' : Nat, d' < 57 → tF d' = f → d' = d) : ∀ d' k', d' < 57 → ¬ (d' = d ∧ k' = j.toNat) → tV w S (up U f j x) d' k' = tV w S U d' k' := by
  intro d' k' hd q
  refine tV_cong (fun _ _ => rfl) (fun _ => rfl) (fun _ => ?_)
  rw [up_eq, if_neg]
  intro z
  exact q ⟨hi d' hd z.1, by omega⟩
theorem tV_upS {d f : Nat} {j : Int} (hc : tC f = false) (hi : ∀ d' : Nat, d' < 57 → tF d' = f → d' = d) : ∀ d' k', d' < 57 → ¬ (d' = d ∧ k' = j.toNat) → tV w (up S f j x) U d' k' = tV w S U d' k' := by
  intro d' k' hd q
  refine tV_cong (fun _ hk => ?_) (fun _ => ?_) (fun _ => rfl)
  · rw [up_eq, if_neg]
    intro z
    rw [z.1, hc] at hk
    exact absurd hk (by decide)
  · rw [up_eq, if_neg]
    intro z
    exact q ⟨hi d' hd z.1, by omega⟩
theorem tV_upC {f : Nat} (hi : ∀ d' : Nat, d' < 57 → tF d' ≠ f) : ∀ d' k', d' < 57 → ¬ (d' = 0 ∧ k' = f) → tV w (up S f 0 x) U d' k' = tV w S U d' k' := by
  intro d' k' hd q
  refine tV_cong (fun h0 hk => ?_) (fun _ => ?_) (fun _ => rfl)
  · rw [up_eq, if_neg]
    intro z
    exact q ⟨h0, z.1⟩
  · rw [up_eq, if_neg]
    intro z
    exact hi d' hd z.1
theorem rd_0 {j : Int} (h0 : 0 ≤ j) : hI (tput h m w S U) (m + 1) j.toNat = iI (S 0 j) := tp_rI (by decide) rfl (tV_one (by decide) rfl rfl h0)
theorem wr_0 {j : Int} (h0 : 0 ≤ j) : putI (tput h m w S U) (m + 1) j.toNat (iI x) = tput h m w (up S 0 j x) U := tp_wI (by decide) rfl ((tV_one (by decide) rfl rfl h0).trans (congrArg some up_s)) (tV_upS rfl (by decide))
theorem rd_1 : hI (tput h m w S U) m 1 = iI (S 1 0) := tp_rI (d := 0) (by decide) rfl (tV_sc rfl)
theorem wr_1 : putI (tput h m w S U) m 1 (iI x) = tput h m w (up S 1 0 x) U := tp_wI (d := 0) (by decide) rfl ((tV_sc rfl).trans (congrArg some up_s)) (tV_upC (by decide))
theorem rd_2 : hI (tput h m w S U) m 2 = iI (S 2 0) := tp_rI (d := 0) (by decide) rfl (tV_sc rfl)
theorem wr_2 : putI (tput h m w S U) m 2 (iI x) = tput h m w (up S 2 0 x) U := tp_wI (d := 0) (by decide) rfl ((tV_sc rfl).trans (congrArg some up_s)) (tV_upC (by decide))
theorem rd_3 {j : Int} (h0 : 0 ≤ j) (h1 : 1 * w ≤ j) (h2 : j < 1 * w + 1) : hI (tput h m w S U) (m + 2) j.toNat = iI (U 3 j) := tp_rI (by decide) rfl (tV_half (H := 1) (by decide) rfl rfl (by decide) h0 h1 h2)
theorem wr_3 {j : Int} (h0 : 0 ≤ j) (h1 : 1 * w ≤ j) (h2 : j < 1 * w + 1) : putI (tput h m w S U) (m + 2) j.toNat (iI x) = tput h m w S (up U 3 j x) := tp_wI (by decide) rfl ((tV_half (H := 1) (by decide) rfl rfl (by decide) h0 h1 h2).trans (congrArg some up_s)) (tV_upU (by decide))
theorem rd_4 {j : Int} (h0 : 0 ≤ j) (h1 : 16 * w ≤ j) (h2 : j < 16 * w + 16) : hJ (tput h m w S U) (m + 3) j.toNat = lI (U 4 j) := tp_rJ (by decide) rfl (tV_half (H := 16) (by decide) rfl rfl (by decide) h0 h1 h2)
theorem wr_4 {j : Int} (h0 : 0 ≤ j) (h1 : 16 * w ≤ j) (h2 : j < 16 * w + 16) : putJ (tput h m w S U) (m + 3) j.toNat (lI x) = tput h m w S (up U 4 j x) := tp_wJ (by decide) rfl ((tV_half (H := 16) (by decide) rfl rfl (by decide) h0 h1 h2).trans (congrArg some up_s)) (tV_upU (by decide))
theorem rd_5 {j : Int} (h0 : 0 ≤ j) (h1 : 16 * w ≤ j) (h2 : j < 16 * w + 16) : hI (tput h m w S U) (m + 4) j.toNat = iI (U 5 j) := tp_rI (by decide) rfl (tV_half (H := 16) (by decide) rfl rfl (by decide) h0 h1 h2)
theorem wr_5 {j : Int} (h0 : 0 ≤ j) (h1 : 16 * w ≤ j) (h2 : j < 16 * w + 16) : putI (tput h m w S U) (m + 4) j.toNat (iI x) = tput h m w S (up U 5 j x) := tp_wI (by decide) rfl ((tV_half (H := 16) (by decide) rfl rfl (by decide) h0 h1 h2).trans (congrArg some up_s)) (tV_upU (by decide))
theorem rd_6 {j : Int} (h0 : 0 ≤ j) (h1 : 16 * w ≤ j) (h2 : j < 16 * w + 16) : hI (tput h m w S U) (m + 5) j.toNat = iI (U 6 j) := tp_rI (by decide) rfl (tV_half (H := 16) (by decide) rfl rfl (by decide) h0 h1 h2)
theorem wr_6 {j : Int} (h0 : 0 ≤ j) (h1 : 16 * w ≤ j) (h2 : j < 16 * w + 16) : putI (tput h m w S U) (m + 5) j.toNat (iI x) = tput h m w S (up U 6 j x) := tp_wI (by decide) rfl ((tV_half (H := 16) (by decide) rfl rfl (by decide) h0 h1 h2).trans (congrArg some up_s)) (tV_upU (by decide))
theorem rd_7 {j : Int} (h0 : 0 ≤ j) (h1 : 16 * w ≤ j) (h2 : j < 16 * w + 16) : hJ (tput h m w S U) (m + 6) j.toNat = lI (U 7 j) := tp_rJ (by decide) rfl (tV_half (H := 16) (by decide) rfl rfl (by decide) h0 h1 h2)
theorem wr_7 {j : Int} (h0 : 0 ≤ j) (h1 : 16 * w ≤ j) (h2 : j < 16 * w + 16) : putJ (tput h m w S U) (m + 6) j.toNat (lI x) = tput h m w S (up U 7 j x) := tp_wJ (by decide) rfl ((tV_half (H := 16) (by decide) rfl rfl (by decide) h0 h1 h2).trans (congrArg some up_s)) (tV_upU (by decide))
theorem rd_8 {j : Int} (h0 : 0 ≤ j) (h1 : 16 * w ≤ j) (h2 : j < 16 * w + 16) : hI (tput h m w S U) (m + 7) j.toNat = iI (U 8 j) := tp_rI (by decide) rfl (tV_half (H := 16) (by decide) rfl rfl (by decide) h0 h1 h2)
theorem wr_8 {j : Int} (h0 : 0 ≤ j) (h1 : 16 * w ≤ j) (h2 : j < 16 * w + 16) : putI (tput h m w S U) (m + 7) j.toNat (iI x) = tput h m w S (up U 8 j x) := tp_wI (by decide) rfl ((tV_half (H := 16) (by decide) rfl rfl (by decide) h0 h1 h2).trans (congrArg some up_s)) (tV_upU (by decide))
theorem rd_9 {j : Int} (h0 : 0 ≤ j) (h1 : 1 * w ≤ j) (h2 : j < 1 * w + 1) : hI (tput h m w S U) (m + 8) j.toNat = iI (U 9 j) := tp_rI (by decide) rfl (tV_half (H := 1) (by decide) rfl rfl (by decide) h0 h1 h2)
theorem wr_9 {j : Int} (h0 : 0 ≤ j) (h1 : 1 * w ≤ j) (h2 : j < 1 * w + 1) : putI (tput h m w S U) (m + 8) j.toNat (iI x) = tput h m w S (up U 9 j x) := tp_wI (by decide) rfl ((tV_half (H := 1) (by decide) rfl rfl (by decide) h0 h1 h2).trans (congrArg some up_s)) (tV_upU (by decide))
theorem rd_10 {j : Int} (h0 : 0 ≤ j) (h1 : 12 * w ≤ j) (h2 : j < 12 * w + 12) : hJ (tput h m w S U) (m + 9) j.toNat = lI (U 10 j) := tp_rJ (by decide) rfl (tV_half (H := 12) (by decide) rfl rfl (by decide) h0 h1 h2)
theorem wr_10 {j : Int} (h0 : 0 ≤ j) (h1 : 12 * w ≤ j) (h2 : j < 12 * w + 12) : putJ (tput h m w S U) (m + 9) j.toNat (lI x) = tput h m w S (up U 10 j x) := tp_wJ (by decide) rfl ((tV_half (H := 12) (by decide) rfl rfl (by decide) h0 h1 h2).trans (congrArg some up_s)) (tV_upU (by decide))
theorem rd_11 {j : Int} (h0 : 0 ≤ j) (h1 : 12 * w ≤ j) (h2 : j < 12 * w + 12) : hI (tput h m w S U) (m + 10) j.toNat = iI (U 11 j) := tp_rI (by decide) rfl (tV_half (H := 12) (by decide) rfl rfl (by decide) h0 h1 h2)
theorem wr_11 {j : Int} (h0 : 0 ≤ j) (h1 : 12 * w ≤ j) (h2 : j < 12 * w + 12) : putI (tput h m w S U) (m + 10) j.toNat (iI x) = tput h m w S (up U 11 j x) := tp_wI (by decide) rfl ((tV_half (H := 12) (by decide) rfl rfl (by decide) h0 h1 h2).trans (congrArg some up_s)) (tV_upU (by decide))
theorem rd_12 {j : Int} (h0 : 0 ≤ j) (h1 : 12 * w ≤ j) (h2 : j < 12 * w + 12) : hJ (tput h m w S U) (m + 11) j.toNat = lI (U 12 j) := tp_rJ (by decide) rfl (tV_half (H := 12) (by decide) rfl rfl (by decide) h0 h1 h2)
theorem wr_12 {j : Int} (h0 : 0 ≤ j) (h1 : 12 * w ≤ j) (h2 : j < 12 * w + 12) : putJ (tput h m w S U) (m + 11) j.toNat (lI x) = tput h m w S (up U 12 j x) := tp_wJ (by decide) rfl ((tV_half (H := 12) (by decide) rfl rfl (by decide) h0 h1 h2).trans (congrArg some up_s)) (tV_upU (by decide))
theorem rd_13 {j : Int} (h0 : 0 ≤ j) (h1 : 12 * w ≤ j) (h2 : j < 12 * w + 12) : hI (tput h m w S U) (m + 12) j.toNat = iI (U 13 j) := tp_rI (by decide) rfl (tV_half (H := 12) (by decide) rfl rfl (by decide) h0 h1 h2)
theorem wr_13 {j : Int} (h0 : 0 ≤ j) (h1 : 12 * w ≤ j) (h2 : j < 12 * w + 12) : putI (tput h m w S U) (m + 12) j.toNat (iI x) = tput h m w S (up U 13 j x) := tp_wI (by decide) rfl ((tV_half (H := 12) (by decide) rfl rfl (by decide) h0 h1 h2).trans (congrArg some up_s)) (tV_upU (by decide))
theorem rd_14 {j : Int} (h0 : 0 ≤ j) (h1 : 12 * w ≤ j) (h2 : j < 12 * w + 12) : hI (tput h m w S U) (m + 13) j.toNat = iI (U 14 j) := tp_rI (by decide) rfl (tV_half (H := 12) (by decide) rfl rfl (by decide) h0 h1 h2)
theorem wr_14 {j : Int} (h0 : 0 ≤ j) (h1 : 12 * w ≤ j) (h2 : j < 12 * w + 12) : putI (tput h m w S U) (m + 13) j.toNat (iI x) = tput h m w S (up U 14 j x) := tp_wI (by decide) rfl ((tV_half (H := 12) (by decide) rfl rfl (by decide) h0 h1 h2).trans (congrArg some up_s)) (tV_upU (by decide))
theorem rd_15 {j : Int} (h0 : 0 ≤ j) (h1 : 12 * w ≤ j) (h2 : j < 12 * w + 12) : hI (tput h m w S U) (m + 14) j.toNat = iI (U 15 j) := tp_rI (by decide) rfl (tV_half (H := 12) (by decide) rfl rfl (by decide) h0 h1 h2)
theorem wr_15 {j : Int} (h0 : 0 ≤ j) (h1 : 12 * w ≤ j) (h2 : j < 12 * w + 12) : putI (tput h m w S U) (m + 14) j.toNat (iI x) = tput h m w S (up U 15 j x) := tp_wI (by decide) rfl ((tV_half (H := 12) (by decide) rfl rfl (by decide) h0 h1 h2).trans (congrArg some up_s)) (tV_upU (by decide))
theorem rd_16 {j : Int} (h0 : 0 ≤ j) (h1 : 48 * w ≤ j) (h2 : j < 48 * w + 48) : hJ (tput h m w S U) (m + 15) j.toNat = lI (U 16 j) := tp_rJ (by decide) rfl (tV_half (H := 48) (by decide) rfl rfl (by decide) h0 h1 h2)
theorem wr_16 {j : Int} (h0 : 0 ≤ j) (h1 : 48 * w ≤ j) (h2 : j < 48 * w + 48) : putJ (tput h m w S U) (m + 15) j.toNat (lI x) = tput h m w S (up U 16 j x) := tp_wJ (by decide) rfl ((tV_half (H := 48) (by decide) rfl rfl (by decide) h0 h1 h2).trans (congrArg some up_s)) (tV_upU (by decide))
theorem rd_17 {j : Int} (h0 : 0 ≤ j) (h1 : 48 * w ≤ j) (h2 : j < 48 * w + 48) : hI (tput h m w S U) (m + 16) j.toNat = iI (U 17 j) := tp_rI (by decide) rfl (tV_half (H := 48) (by decide) rfl rfl (by decide) h0 h1 h2)
theorem wr_17 {j : Int} (h0 : 0 ≤ j) (h1 : 48 * w ≤ j) (h2 : j < 48 * w + 48) : putI (tput h m w S U) (m + 16) j.toNat (iI x) = tput h m w S (up U 17 j x) := tp_wI (by decide) rfl ((tV_half (H := 48) (by decide) rfl rfl (by decide) h0 h1 h2).trans (congrArg some up_s)) (tV_upU (by decide))
theorem rd_18 {j : Int} (h0 : 0 ≤ j) (h1 : 12 * w ≤ j) (h2 : j < 12 * w + 12) : hI (tput h m w S U) (m + 17) j.toNat = iI (U 18 j) := tp_rI (by decide) rfl (tV_half (H := 12) (by decide) rfl rfl (by decide) h0 h1 h2)
theorem wr_18 {j : Int} (h0 : 0 ≤ j) (h1 : 12 * w ≤ j) (h2 : j < 12 * w + 12) : putI (tput h m w S U) (m + 17) j.toNat (iI x) = tput h m w S (up U 18 j x) := tp_wI (by decide) rfl ((tV_half (H := 12) (by decide) rfl rfl (by decide) h0 h1 h2).trans (congrArg some up_s)) (tV_upU (by decide))
theorem rd_19 {j : Int} (h0 : 0 ≤ j) (h1 : 1 * w ≤ j) (h2 : j < 1 * w + 1) : hI (tput h m w S U) (m + 18) j.toNat = iI (U 19 j) := tp_rI (by decide) rfl (tV_half (H := 1) (by decide) rfl rfl (by decide) h0 h1 h2)
theorem wr_19 {j : Int} (h0 : 0 ≤ j) (h1 : 1 * w ≤ j) (h2 : j < 1 * w + 1) : putI (tput h m w S U) (m + 18) j.toNat (iI x) = tput h m w S (up U 19 j x) := tp_wI (by decide) rfl ((tV_half (H := 1) (by decide) rfl rfl (by decide) h0 h1 h2).trans (congrArg some up_s)) (tV_upU (by decide))
theorem rd_20 {j : Int} (h0 : 0 ≤ j) (h1 : 120 * w ≤ j) (h2 : j < 120 * w + 120) : hI (tput h m w S U) (m + 19) j.toNat = iI (U 20 j) := tp_rI (by decide) rfl (tV_half (H := 120) (by decide) rfl rfl (by decide) h0 h1 h2)
theorem wr_20 {j : Int} (h0 : 0 ≤ j) (h1 : 120 * w ≤ j) (h2 : j < 120 * w + 120) : putI (tput h m w S U) (m + 19) j.toNat (iI x) = tput h m w S (up U 20 j x) := tp_wI (by decide) rfl ((tV_half (H := 120) (by decide) rfl rfl (by decide) h0 h1 h2).trans (congrArg some up_s)) (tV_upU (by decide))
theorem rd_21 {j : Int} (h0 : 0 ≤ j) (h1 : 120 * w ≤ j) (h2 : j < 120 * w + 120) : hI (tput h m w S U) (m + 20) j.toNat = iI (U 21 j) := tp_rI (by decide) rfl (tV_half (H := 120) (by decide) rfl rfl (by decide) h0 h1 h2)
theorem wr_21 {j : Int} (h0 : 0 ≤ j) (h1 : 120 * w ≤ j) (h2 : j < 120 * w + 120) : putI (tput h m w S U) (m + 20) j.toNat (iI x) = tput h m w S (up U 21 j x) := tp_wI (by decide) rfl ((tV_half (H := 120) (by decide) rfl rfl (by decide) h0 h1 h2).trans (congrArg some up_s)) (tV_upU (by decide))
theorem rd_22 {j : Int} (h0 : 0 ≤ j) (h1 : 120 * w ≤ j) (h2 : j < 120 * w + 120) : hI (tput h m w S U) (m + 21) j.toNat = iI (U 22 j) := tp_rI (by decide) rfl (tV_half (H := 120) (by decide) rfl rfl (by decide) h0 h1 h2)
theorem wr_22 {j : Int} (h0 : 0 ≤ j) (h1 : 120 * w ≤ j) (h2 : j < 120 * w + 120) : putI (tput h m w S U) (m + 21) j.toNat (iI x) = tput h m w S (up U 22 j x) := tp_wI (by decide) rfl ((tV_half (H := 120) (by decide) rfl rfl (by decide) h0 h1 h2).trans (congrArg some up_s)) (tV_upU (by decide))
theorem rd_23 {j : Int} (h0 : 0 ≤ j) (h1 : 120 * w ≤ j) (h2 : j < 120 * w + 120) : hI (tput h m w S U) (m + 22) j.toNat = iI (U 23 j) := tp_rI (by decide) rfl (tV_half (H := 120) (by decide) rfl rfl (by decide) h0 h1 h2)
theorem wr_23 {j : Int} (h0 : 0 ≤ j) (h1 : 120 * w ≤ j) (h2 : j < 120 * w + 120) : putI (tput h m w S U) (m + 22) j.toNat (iI x) = tput h m w S (up U 23 j x) := tp_wI (by decide) rfl ((tV_half (H := 120) (by decide) rfl rfl (by decide) h0 h1 h2).trans (congrArg some up_s)) (tV_upU (by decide))
theorem rd_24 {j : Int} (h0 : 0 ≤ j) (h1 : 120 * w ≤ j) (h2 : j < 120 * w + 120) : hI (tput h m w S U) (m + 23) j.toNat = iI (U 24 j) := tp_rI (by decide) rfl (tV_half (H := 120) (by decide) rfl rfl (by decide) h0 h1 h2)
theorem wr_24 {j : Int} (h0 : 0 ≤ j) (h1 : 120 * w ≤ j) (h2 : j < 120 * w + 120) : putI (tput h m w S U) (m + 23) j.toNat (iI x) = tput h m w S (up U 24 j x) := tp_wI (by decide) rfl ((tV_half (H := 120) (by decide) rfl rfl (by decide) h0 h1 h2).trans (congrArg some up_s)) (tV_upU (by decide))
theorem rd_25 {j : Int} (h0 : 0 ≤ j) (h1 : 120 * w ≤ j) (h2 : j < 120 * w + 120) : hJ (tput h m w S U) (m + 24) j.toNat = lI (U 25 j) := tp_rJ (by decide) rfl (tV_half (H := 120) (by decide) rfl rfl (by decide) h0 h1 h2)
theorem wr_25 {j : Int} (h0 : 0 ≤ j) (h1 : 120 * w ≤ j) (h2 : j < 120 * w + 120) : putJ (tput h m w S U) (m + 24) j.toNat (lI x) = tput h m w S (up U 25 j x) := tp_wJ (by decide) rfl ((tV_half (H := 120) (by decide) rfl rfl (by decide) h0 h1 h2).trans (congrArg some up_s)) (tV_upU (by decide))
theorem rd_26 {j : Int} (h0 : 0 ≤ j) (h1 : 120 * w ≤ j) (h2 : j < 120 * w + 120) : hI (tput h m w S U) (m + 25) j.toNat = iI (U 26 j) := tp_rI (by decide) rfl (tV_half (H := 120) (by decide) rfl rfl (by decide) h0 h1 h2)
theorem wr_26 {j : Int} (h0 : 0 ≤ j) (h1 : 120 * w ≤ j) (h2 : j < 120 * w + 120) : putI (tput h m w S U) (m + 25) j.toNat (iI x) = tput h m w S (up U 26 j x) := tp_wI (by decide) rfl ((tV_half (H := 120) (by decide) rfl rfl (by decide) h0 h1 h2).trans (congrArg some up_s)) (tV_upU (by decide))
theorem rd_27 {j : Int} (h0 : 0 ≤ j) (h1 : 120 * w ≤ j) (h2 : j < 120 * w + 120) : hI (tput h m w S U) (m + 26) j.toNat = iI (U 27 j) := tp_rI (by decide) rfl (tV_half (H := 120) (by decide) rfl rfl (by decide) h0 h1 h2)
theorem wr_27 {j : Int} (h0 : 0 ≤ j) (h1 : 120 * w ≤ j) (h2 : j < 120 * w + 120) : putI (tput h m w S U) (m + 26) j.toNat (iI x) = tput h m w S (up U 27 j x) := tp_wI (by decide) rfl ((tV_half (H := 120) (by decide) rfl rfl (by decide) h0 h1 h2).trans (congrArg some up_s)) (tV_upU (by decide))
theorem rd_28 {j : Int} (h0 : 0 ≤ j) (h1 : 120 * w ≤ j) (h2 : j < 120 * w + 120) : hI (tput h m w S U) (m + 27) j.toNat = iI (U 28 j) := tp_rI (by decide) rfl (tV_half (H := 120) (by decide) rfl rfl (by decide) h0 h1 h2)
theorem wr_28 {j : Int} (h0 : 0 ≤ j) (h1 : 120 * w ≤ j) (h2 : j < 120 * w + 120) : putI (tput h m w S U) (m + 27) j.toNat (iI x) = tput h m w S (up U 28 j x) := tp_wI (by decide) rfl ((tV_half (H := 120) (by decide) rfl rfl (by decide) h0 h1 h2).trans (congrArg some up_s)) (tV_upU (by decide))
theorem rd_29 {j : Int} (h0 : 0 ≤ j) (h1 : 120 * w ≤ j) (h2 : j < 120 * w + 120) : hI (tput h m w S U) (m + 28) j.toNat = iI (U 29 j) := tp_rI (by decide) rfl (tV_half (H := 120) (by decide) rfl rfl (by decide) h0 h1 h2)
theorem wr_29 {j : Int} (h0 : 0 ≤ j) (h1 : 120 * w ≤ j) (h2 : j < 120 * w + 120) : putI (tput h m w S U) (m + 28) j.toNat (iI x) = tput h m w S (up U 29 j x) := tp_wI (by decide) rfl ((tV_half (H := 120) (by decide) rfl rfl (by decide) h0 h1 h2).trans (congrArg some up_s)) (tV_upU (by decide))
theorem rd_30 {j : Int} (h0 : 0 ≤ j) (h1 : 120 * w ≤ j) (h2 : j < 120 * w + 120) : hI (tput h m w S U) (m + 29) j.toNat = iI (U 30 j) := tp_rI (by decide) rfl (tV_half (H := 120) (by decide) rfl rfl (by decide) h0 h1 h2)
theorem wr_30 {j : Int} (h0 : 0 ≤ j) (h1 : 120 * w ≤ j) (h2 : j < 120 * w + 120) : putI (tput h m w S U) (m + 29) j.toNat (iI x) = tput h m w S (up U 30 j x) := tp_wI (by decide) rfl ((tV_half (H := 120) (by decide) rfl rfl (by decide) h0 h1 h2).trans (congrArg some up_s)) (tV_upU (by decide))
theorem rd_31 {j : Int} (h0 : 0 ≤ j) (h1 : 480 * w ≤ j) (h2 : j < 480 * w + 480) : hJ (tput h m w S U) (m + 30) j.toNat = lI (U 31 j) := tp_rJ (by decide) rfl (tV_half (H := 480) (by decide) rfl rfl (by decide) h0 h1 h2)
theorem wr_31 {j : Int} (h0 : 0 ≤ j) (h1 : 480 * w ≤ j) (h2 : j < 480 * w + 480) : putJ (tput h m w S U) (m + 30) j.toNat (lI x) = tput h m w S (up U 31 j x) := tp_wJ (by decide) rfl ((tV_half (H := 480) (by decide) rfl rfl (by decide) h0 h1 h2).trans (congrArg some up_s)) (tV_upU (by decide))
theorem rd_32 {j : Int} (h0 : 0 ≤ j) (h1 : 480 * w ≤ j) (h2 : j < 480 * w + 480) : hI (tput h m w S U) (m + 31) j.toNat = iI (U 32 j) := tp_rI (by decide) rfl (tV_half (H := 480) (by decide) rfl rfl (by decide) h0 h1 h2)
theorem wr_32 {j : Int} (h0 : 0 ≤ j) (h1 : 480 * w ≤ j) (h2 : j < 480 * w + 480) : putI (tput h m w S U) (m + 31) j.toNat (iI x) = tput h m w S (up U 32 j x) := tp_wI (by decide) rfl ((tV_half (H := 480) (by decide) rfl rfl (by decide) h0 h1 h2).trans (congrArg some up_s)) (tV_upU (by decide))
theorem rd_33 {j : Int} (h0 : 0 ≤ j) (h1 : 120 * w ≤ j) (h2 : j < 120 * w + 120) : hI (tput h m w S U) (m + 32) j.toNat = iI (U 33 j) := tp_rI (by decide) rfl (tV_half (H := 120) (by decide) rfl rfl (by decide) h0 h1 h2)
theorem wr_33 {j : Int} (h0 : 0 ≤ j) (h1 : 120 * w ≤ j) (h2 : j < 120 * w + 120) : putI (tput h m w S U) (m + 32) j.toNat (iI x) = tput h m w S (up U 33 j x) := tp_wI (by decide) rfl ((tV_half (H := 120) (by decide) rfl rfl (by decide) h0 h1 h2).trans (congrArg some up_s)) (tV_upU (by decide))
theorem rd_34 {j : Int} (h0 : 0 ≤ j) (h1 : 480 * w ≤ j) (h2 : j < 480 * w + 480) : hI (tput h m w S U) (m + 33) j.toNat = iI (U 34 j) := tp_rI (by decide) rfl (tV_half (H := 480) (by decide) rfl rfl (by decide) h0 h1 h2)
theorem wr_34 {j : Int} (h0 : 0 ≤ j) (h1 : 480 * w ≤ j) (h2 : j < 480 * w + 480) : putI (tput h m w S U) (m + 33) j.toNat (iI x) = tput h m w S (up U 34 j x) := tp_wI (by decide) rfl ((tV_half (H := 480) (by decide) rfl rfl (by decide) h0 h1 h2).trans (congrArg some up_s)) (tV_upU (by decide))
theorem rd_35 {j : Int} (h0 : 0 ≤ j) (h1 : 480 * w ≤ j) (h2 : j < 480 * w + 480) : hJ (tput h m w S U) (m + 34) j.toNat = lI (U 35 j) := tp_rJ (by decide) rfl (tV_half (H := 480) (by decide) rfl rfl (by decide) h0 h1 h2)
theorem wr_35 {j : Int} (h0 : 0 ≤ j) (h1 : 480 * w ≤ j) (h2 : j < 480 * w + 480) : putJ (tput h m w S U) (m + 34) j.toNat (lI x) = tput h m w S (up U 35 j x) := tp_wJ (by decide) rfl ((tV_half (H := 480) (by decide) rfl rfl (by decide) h0 h1 h2).trans (congrArg some up_s)) (tV_upU (by decide))
theorem rd_36 {j : Int} (h0 : 0 ≤ j) (h1 : 480 * w ≤ j) (h2 : j < 480 * w + 480) : hI (tput h m w S U) (m + 35) j.toNat = iI (U 36 j) := tp_rI (by decide) rfl (tV_half (H := 480) (by decide) rfl rfl (by decide) h0 h1 h2)
theorem wr_36 {j : Int} (h0 : 0 ≤ j) (h1 : 480 * w ≤ j) (h2 : j < 480 * w + 480) : putI (tput h m w S U) (m + 35) j.toNat (iI x) = tput h m w S (up U 36 j x) := tp_wI (by decide) rfl ((tV_half (H := 480) (by decide) rfl rfl (by decide) h0 h1 h2).trans (congrArg some up_s)) (tV_upU (by decide))
theorem rd_37 {j : Int} (h0 : 0 ≤ j) (h1 : 480 * w ≤ j) (h2 : j < 480 * w + 480) : hI (tput h m w S U) (m + 36) j.toNat = iI (U 37 j) := tp_rI (by decide) rfl (tV_half (H := 480) (by decide) rfl rfl (by decide) h0 h1 h2)
theorem wr_37 {j : Int} (h0 : 0 ≤ j) (h1 : 480 * w ≤ j) (h2 : j < 480 * w + 480) : putI (tput h m w S U) (m + 36) j.toNat (iI x) = tput h m w S (up U 37 j x) := tp_wI (by decide) rfl ((tV_half (H := 480) (by decide) rfl rfl (by decide) h0 h1 h2).trans (congrArg some up_s)) (tV_upU (by decide))
theorem rd_38 {j : Int} (h0 : 0 ≤ j) (h1 : 1920 * w ≤ j) (h2 : j < 1920 * w + 1920) : hJ (tput h m w S U) (m + 37) j.toNat = lI (U 38 j) := tp_rJ (by decide) rfl (tV_half (H := 1920) (by decide) rfl rfl (by decide) h0 h1 h2)
theorem wr_38 {j : Int} (h0 : 0 ≤ j) (h1 : 1920 * w ≤ j) (h2 : j < 1920 * w + 1920) : putJ (tput h m w S U) (m + 37) j.toNat (lI x) = tput h m w S (up U 38 j x) := tp_wJ (by decide) rfl ((tV_half (H := 1920) (by decide) rfl rfl (by decide) h0 h1 h2).trans (congrArg some up_s)) (tV_upU (by decide))
theorem rd_39 {j : Int} (h0 : 0 ≤ j) (h1 : 1920 * w ≤ j) (h2 : j < 1920 * w + 1920) : hI (tput h m w S U) (m + 38) j.toNat = iI (U 39 j) := tp_rI (by decide) rfl (tV_half (H := 1920) (by decide) rfl rfl (by decide) h0 h1 h2)
theorem wr_39 {j : Int} (h0 : 0 ≤ j) (h1 : 1920 * w ≤ j) (h2 : j < 1920 * w + 1920) : putI (tput h m w S U) (m + 38) j.toNat (iI x) = tput h m w S (up U 39 j x) := tp_wI (by decide) rfl ((tV_half (H := 1920) (by decide) rfl rfl (by decide) h0 h1 h2).trans (congrArg some up_s)) (tV_upU (by decide))
theorem rd_40 {j : Int} (h0 : 0 ≤ j) (h1 : 1 * w ≤ j) (h2 : j < 1 * w + 1) : hI (tput h m w S U) (m + 39) j.toNat = iI (U 40 j) := tp_rI (by decide) rfl (tV_half (H := 1) (by decide) rfl rfl (by decide) h0 h1 h2)
theorem wr_40 {j : Int} (h0 : 0 ≤ j) (h1 : 1 * w ≤ j) (h2 : j < 1 * w + 1) : putI (tput h m w S U) (m + 39) j.toNat (iI x) = tput h m w S (up U 40 j x) := tp_wI (by decide) rfl ((tV_half (H := 1) (by decide) rfl rfl (by decide) h0 h1 h2).trans (congrArg some up_s)) (tV_upU (by decide))
theorem rd_41 {j : Int} (h0 : 0 ≤ j) (h1 : 1024 * w ≤ j) (h2 : j < 1024 * w + 1024) : hI (tput h m w S U) (m + 40) j.toNat = iI (U 41 j) := tp_rI (by decide) rfl (tV_half (H := 1024) (by decide) rfl rfl (by decide) h0 h1 h2)
theorem wr_41 {j : Int} (h0 : 0 ≤ j) (h1 : 1024 * w ≤ j) (h2 : j < 1024 * w + 1024) : putI (tput h m w S U) (m + 40) j.toNat (iI x) = tput h m w S (up U 41 j x) := tp_wI (by decide) rfl ((tV_half (H := 1024) (by decide) rfl rfl (by decide) h0 h1 h2).trans (congrArg some up_s)) (tV_upU (by decide))
theorem rd_42 {j : Int} (h0 : 0 ≤ j) (h1 : 1024 * w ≤ j) (h2 : j < 1024 * w + 1024) : hI (tput h m w S U) (m + 41) j.toNat = iI (U 42 j) := tp_rI (by decide) rfl (tV_half (H := 1024) (by decide) rfl rfl (by decide) h0 h1 h2)
theorem wr_42 {j : Int} (h0 : 0 ≤ j) (h1 : 1024 * w ≤ j) (h2 : j < 1024 * w + 1024) : putI (tput h m w S U) (m + 41) j.toNat (iI x) = tput h m w S (up U 42 j x) := tp_wI (by decide) rfl ((tV_half (H := 1024) (by decide) rfl rfl (by decide) h0 h1 h2).trans (congrArg some up_s)) (tV_upU (by decide))
theorem rd_43 {j : Int} (h0 : 0 ≤ j) (h1 : 1024 * w ≤ j) (h2 : j < 1024 * w + 1024) : hI (tput h m w S U) (m + 42) j.toNat = iI (U 43 j) := tp_rI (by decide) rfl (tV_half (H := 1024) (by decide) rfl rfl (by decide) h0 h1 h2)
theorem wr_43 {j : Int} (h0 : 0 ≤ j) (h1 : 1024 * w ≤ j) (h2 : j < 1024 * w + 1024) : putI (tput h m w S U) (m + 42) j.toNat (iI x) = tput h m w S (up U 43 j x) := tp_wI (by decide) rfl ((tV_half (H := 1024) (by decide) rfl rfl (by decide) h0 h1 h2).trans (congrArg some up_s)) (tV_upU (by decide))
theorem rd_44 {j : Int} (h0 : 0 ≤ j) (h1 : 1024 * w ≤ j) (h2 : j < 1024 * w + 1024) : hI (tput h m w S U) (m + 43) j.toNat = iI (U 44 j) := tp_rI (by decide) rfl (tV_half (H := 1024) (by decide) rfl rfl (by decide) h0 h1 h2)
theorem wr_44 {j : Int} (h0 : 0 ≤ j) (h1 : 1024 * w ≤ j) (h2 : j < 1024 * w + 1024) : putI (tput h m w S U) (m + 43) j.toNat (iI x) = tput h m w S (up U 44 j x) := tp_wI (by decide) rfl ((tV_half (H := 1024) (by decide) rfl rfl (by decide) h0 h1 h2).trans (congrArg some up_s)) (tV_upU (by decide))
theorem rd_45 {j : Int} (h0 : 0 ≤ j) (h1 : 1024 * w ≤ j) (h2 : j < 1024 * w + 1024) : hI (tput h m w S U) (m + 44) j.toNat = iI (U 45 j) := tp_rI (by decide) rfl (tV_half (H := 1024) (by decide) rfl rfl (by decide) h0 h1 h2)
theorem wr_45 {j : Int} (h0 : 0 ≤ j) (h1 : 1024 * w ≤ j) (h2 : j < 1024 * w + 1024) : putI (tput h m w S U) (m + 44) j.toNat (iI x) = tput h m w S (up U 45 j x) := tp_wI (by decide) rfl ((tV_half (H := 1024) (by decide) rfl rfl (by decide) h0 h1 h2).trans (congrArg some up_s)) (tV_upU (by decide))
theorem rd_46 {j : Int} (h0 : 0 ≤ j) (h1 : 1024 * w ≤ j) (h2 : j < 1024 * w + 1024) : hI (tput h m w S U) (m + 45) j.toNat = iI (U 46 j) := tp_rI (by decide) rfl (tV_half (H := 1024) (by decide) rfl rfl (by decide) h0 h1 h2)
theorem wr_46 {j : Int} (h0 : 0 ≤ j) (h1 : 1024 * w ≤ j) (h2 : j < 1024 * w + 1024) : putI (tput h m w S U) (m + 45) j.toNat (iI x) = tput h m w S (up U 46 j x) := tp_wI (by decide) rfl ((tV_half (H := 1024) (by decide) rfl rfl (by decide) h0 h1 h2).trans (congrArg some up_s)) (tV_upU (by decide))
theorem rd_47 : hI (tput h m w S U) m 47 = iI (S 47 0) := tp_rI (d := 0) (by decide) rfl (tV_sc rfl)
theorem wr_47 : putI (tput h m w S U) m 47 (iI x) = tput h m w (up S 47 0 x) U := tp_wI (d := 0) (by decide) rfl ((tV_sc rfl).trans (congrArg some up_s)) (tV_upC (by decide))
theorem rd_48 : hI (tput h m w S U) m 48 = iI (S 48 0) := tp_rI (d := 0) (by decide) rfl (tV_sc rfl)
theorem wr_48 : putI (tput h m w S U) m 48 (iI x) = tput h m w (up S 48 0 x) U := tp_wI (d := 0) (by decide) rfl ((tV_sc rfl).trans (congrArg some up_s)) (tV_upC (by decide))
theorem rd_49 : hI (tput h m w S U) m 49 = iI (S 49 0) := tp_rI (d := 0) (by decide) rfl (tV_sc rfl)
theorem wr_49 : putI (tput h m w S U) m 49 (iI x) = tput h m w (up S 49 0 x) U := tp_wI (d := 0) (by decide) rfl ((tV_sc rfl).trans (congrArg some up_s)) (tV_upC (by decide))
theorem rd_50 : hJ (tput h m w S U) m 50 = lI (S 50 0) := tp_rJ (d := 0) (by decide) rfl (tV_sc rfl)
theorem wr_50 : putJ (tput h m w S U) m 50 (lI x) = tput h m w (up S 50 0 x) U := tp_wJ (d := 0) (by decide) rfl ((tV_sc rfl).trans (congrArg some up_s)) (tV_upC (by decide))
theorem rd_51 : hI (tput h m w S U) m 51 = iI (S 51 0) := tp_rI (d := 0) (by decide) rfl (tV_sc rfl)
theorem wr_51 : putI (tput h m w S U) m 51 (iI x) = tput h m w (up S 51 0 x) U := tp_wI (d := 0) (by decide) rfl ((tV_sc rfl).trans (congrArg some up_s)) (tV_upC (by decide))
theorem rd_52 : hI (tput h m w S U) m 52 = iI (S 52 0) := tp_rI (d := 0) (by decide) rfl (tV_sc rfl)
theorem wr_52 : putI (tput h m w S U) m 52 (iI x) = tput h m w (up S 52 0 x) U := tp_wI (d := 0) (by decide) rfl ((tV_sc rfl).trans (congrArg some up_s)) (tV_upC (by decide))
theorem rd_53 : hJ (tput h m w S U) m 53 = lI (S 53 0) := tp_rJ (d := 0) (by decide) rfl (tV_sc rfl)
theorem wr_53 : putJ (tput h m w S U) m 53 (lI x) = tput h m w (up S 53 0 x) U := tp_wJ (d := 0) (by decide) rfl ((tV_sc rfl).trans (congrArg some up_s)) (tV_upC (by decide))
theorem rd_54 : hI (tput h m w S U) m 54 = iI (S 54 0) := tp_rI (d := 0) (by decide) rfl (tV_sc rfl)
theorem wr_54 : putI (tput h m w S U) m 54 (iI x) = tput h m w (up S 54 0 x) U := tp_wI (d := 0) (by decide) rfl ((tV_sc rfl).trans (congrArg some up_s)) (tV_upC (by decide))
theorem rd_55 : hI (tput h m w S U) m 55 = iI (S 55 0) := tp_rI (d := 0) (by decide) rfl (tV_sc rfl)
theorem wr_55 : putI (tput h m w S U) m 55 (iI x) = tput h m w (up S 55 0 x) U := tp_wI (d := 0) (by decide) rfl ((tV_sc rfl).trans (congrArg some up_s)) (tV_upC (by decide))
theorem rd_56 {j : Int} (h0 : 0 ≤ j) : hI (tput h m w S U) (m + 46) j.toNat = iI (S 56 j) := tp_rI (by decide) rfl (tV_one (by decide) rfl rfl h0)
theorem wr_56 {j : Int} (h0 : 0 ≤ j) : putI (tput h m w S U) (m + 46) j.toNat (iI x) = tput h m w (up S 56 j x) U := tp_wI (by decide) rfl ((tV_one (by decide) rfl rfl h0).trans (congrArg some up_s)) (tV_upS rfl (by decide))
theorem rd_57 : hI (tput h m w S U) m 57 = iI (S 57 0) := tp_rI (d := 0) (by decide) rfl (tV_sc rfl)
theorem wr_57 : putI (tput h m w S U) m 57 (iI x) = tput h m w (up S 57 0 x) U := tp_wI (d := 0) (by decide) rfl ((tV_sc rfl).trans (congrArg some up_s)) (tV_upC (by decide))
theorem rd_58 {j : Int} (h0 : 0 ≤ j) : hI (tput h m w S U) (m + 47) j.toNat = iI (S 58 j) := tp_rI (by decide) rfl (tV_one (by decide) rfl rfl h0)
theorem wr_58 {j : Int} (h0 : 0 ≤ j) : putI (tput h m w S U) (m + 47) j.toNat (iI x) = tput h m w (up S 58 j x) U := tp_wI (by decide) rfl ((tV_one (by decide) rfl rfl h0).trans (congrArg some up_s)) (tV_upS rfl (by decide))
theorem rd_59 {j : Int} (h0 : 0 ≤ j) : hI (tput h m w S U) (m + 48) j.toNat = iI (S 59 j) := tp_rI (by decide) rfl (tV_one (by decide) rfl rfl h0)
theorem wr_59 {j : Int} (h0 : 0 ≤ j) : putI (tput h m w S U) (m + 48) j.toNat (iI x) = tput h m w (up S 59 j x) U := tp_wI (by decide) rfl ((tV_one (by decide) rfl rfl h0).trans (congrArg some up_s)) (tV_upS rfl (by decide))
theorem rd_60 : hI (tput h m w S U) m 60 = iI (S 60 0) := tp_rI (d := 0) (by decide) rfl (tV_sc rfl)
theorem wr_60 : putI (tput h m w S U) m 60 (iI x) = tput h m w (up S 60 0 x) U := tp_wI (d := 0) (by decide) rfl ((tV_sc rfl).trans (congrArg some up_s)) (tV_upC (by decide))
theorem rd_61 {j : Int} (h0 : 0 ≤ j) : hI (tput h m w S U) (m + 49) j.toNat = iI (S 61 j) := tp_rI (by decide) rfl (tV_one (by decide) rfl rfl h0)
theorem wr_61 {j : Int} (h0 : 0 ≤ j) : putI (tput h m w S U) (m + 49) j.toNat (iI x) = tput h m w (up S 61 j x) U := tp_wI (by decide) rfl ((tV_one (by decide) rfl rfl h0).trans (congrArg some up_s)) (tV_upS rfl (by decide))
theorem rd_62 {j : Int} (h0 : 0 ≤ j) : hI (tput h m w S U) (m + 50) j.toNat = iI (S 62 j) := tp_rI (by decide) rfl (tV_one (by decide) rfl rfl h0)
theorem wr_62 {j : Int} (h0 : 0 ≤ j) : putI (tput h m w S U) (m + 50) j.toNat (iI x) = tput h m w (up S 62 j x) U := tp_wI (by decide) rfl ((tV_one (by decide) rfl rfl h0).trans (congrArg some up_s)) (tV_upS rfl (by decide))
theorem rd_63 {j : Int} (h0 : 0 ≤ j) : hI (tput h m w S U) (m + 51) j.toNat = iI (S 63 j) := tp_rI (by decide) rfl (tV_one (by decide) rfl rfl h0)
theorem wr_63 {j : Int} (h0 : 0 ≤ j) : putI (tput h m w S U) (m + 51) j.toNat (iI x) = tput h m w (up S 63 j x) U := tp_wI (by decide) rfl ((tV_one (by decide) rfl rfl h0).trans (congrArg some up_s)) (tV_upS rfl (by decide))
theorem rd_64 : hJ (tput h m w S U) m 64 = lI (S 64 0) := tp_rJ (d := 0) (by decide) rfl (tV_sc rfl)
theorem wr_64 : putJ (tput h m w S U) m 64 (lI x) = tput h m w (up S 64 0 x) U := tp_wJ (d := 0) (by decide) rfl ((tV_sc rfl).trans (congrArg some up_s)) (tV_upC (by decide))
theorem rd_65 : hI (tput h m w S U) m 65 = iI (S 65 0) := tp_rI (d := 0) (by decide) rfl (tV_sc rfl)
theorem wr_65 : putI (tput h m w S U) m 65 (iI x) = tput h m w (up S 65 0 x) U := tp_wI (d := 0) (by decide) rfl ((tV_sc rfl).trans (congrArg some up_s)) (tV_upC (by decide))
theorem rd_66 : hI (tput h m w S U) m 66 = iI (S 66 0) := tp_rI (d := 0) (by decide) rfl (tV_sc rfl)
theorem wr_66 : putI (tput h m w S U) m 66 (iI x) = tput h m w (up S 66 0 x) U := tp_wI (d := 0) (by decide) rfl ((tV_sc rfl).trans (congrArg some up_s)) (tV_upC (by decide))
theorem rd_67 : hI (tput h m w S U) m 67 = iI (S 67 0) := tp_rI (d := 0) (by decide) rfl (tV_sc rfl)
theorem wr_67 : putI (tput h m w S U) m 67 (iI x) = tput h m w (up S 67 0 x) U := tp_wI (d := 0) (by decide) rfl ((tV_sc rfl).trans (congrArg some up_s)) (tV_upC (by decide))
theorem rd_68 : hI (tput h m w S U) m 68 = iI (S 68 0) := tp_rI (d := 0) (by decide) rfl (tV_sc rfl)
theorem wr_68 : putI (tput h m w S U) m 68 (iI x) = tput h m w (up S 68 0 x) U := tp_wI (d := 0) (by decide) rfl ((tV_sc rfl).trans (congrArg some up_s)) (tV_upC (by decide))
theorem rd_69 : hI (tput h m w S U) m 69 = iI (S 69 0) := tp_rI (d := 0) (by decide) rfl (tV_sc rfl)
theorem wr_69 : putI (tput h m w S U) m 69 (iI x) = tput h m w (up S 69 0 x) U := tp_wI (d := 0) (by decide) rfl ((tV_sc rfl).trans (congrArg some up_s)) (tV_upC (by decide))
theorem rd_70 {j : Int} (h0 : 0 ≤ j) : hI (tput h m w S U) (m + 52) j.toNat = iI (S 70 j) := tp_rI (by decide) rfl (tV_one (by decide) rfl rfl h0)
theorem wr_70 {j : Int} (h0 : 0 ≤ j) : putI (tput h m w S U) (m + 52) j.toNat (iI x) = tput h m w (up S 70 j x) U := tp_wI (by decide) rfl ((tV_one (by decide) rfl rfl h0).trans (congrArg some up_s)) (tV_upS rfl (by decide))
theorem rd_71 {j : Int} (h0 : 0 ≤ j) : hI (tput h m w S U) (m + 53) j.toNat = iI (S 71 j) := tp_rI (by decide) rfl (tV_one (by decide) rfl rfl h0)
theorem wr_71 {j : Int} (h0 : 0 ≤ j) : putI (tput h m w S U) (m + 53) j.toNat (iI x) = tput h m w (up S 71 j x) U := tp_wI (by decide) rfl ((tV_one (by decide) rfl rfl h0).trans (congrArg some up_s)) (tV_upS rfl (by decide))
theorem rd_72 {j : Int} (h0 : 0 ≤ j) : hI (tput h m w S U) (m + 54) j.toNat = iI (S 72 j) := tp_rI (by decide) rfl (tV_one (by decide) rfl rfl h0)
theorem wr_72 {j : Int} (h0 : 0 ≤ j) : putI (tput h m w S U) (m + 54) j.toNat (iI x) = tput h m w (up S 72 j x) U := tp_wI (by decide) rfl ((tV_one (by decide) rfl rfl h0).trans (congrArg some up_s)) (tV_upS rfl (by decide))
theorem rd_73 {j : Int} (h0 : 0 ≤ j) : hI (tput h m w S U) (m + 55) j.toNat = iI (S 73 j) := tp_rI (by decide) rfl (tV_one (by decide) rfl rfl h0)
theorem wr_73 {j : Int} (h0 : 0 ≤ j) : putI (tput h m w S U) (m + 55) j.toNat (iI x) = tput h m w (up S 73 j x) U := tp_wI (by decide) rfl ((tV_one (by decide) rfl rfl h0).trans (congrArg some up_s)) (tV_upS rfl (by decide))
theorem rd_74 {j : Int} (h0 : 0 ≤ j) : hI (tput h m w S U) (m + 56) j.toNat = iI (S 74 j) := tp_rI (by decide) rfl (tV_one (by decide) rfl rfl h0)
theorem wr_74 {j : Int} (h0 : 0 ≤ j) : putI (tput h m w S U) (m + 56) j.toNat (iI x) = tput h m w (up S 74 j x) U := tp_wI (by decide) rfl ((tV_one (by decide) rfl rfl h0).trans (congrArg some up_s)) (tV_upS rfl (by decide))
/-- the twin's cells stand -/
def TS (h : am_H) (m : Nat) : Prop := hK h m = 15 ∧ (∀ d, d < 57 → 0 < d → hK h (m + d) = tK d ∧ hL h (m + d) = tL d) ∧ ∀ f, f < 75 → tA f ≠ 0 → hR h m f = some (m + tA f)
theorem tk0 (sh : TS h m) : hK (tput h m w S U) m = 15 := sh.1
theorem tk {d : Nat} (sh : TS h m) (hd : d < 57) (h0 : 0 < d) (e : tK d = c) : hK (tput h m w S U) (m + d) = c := (sh.2.1 d hd h0).1.trans e
theorem tk_l {d : Nat} (sh : TS h m) (hd : d < 57) (h0 : 0 < d) (e : c ≤ tK d) : c ≤ hK (tput h m w S U) (m + d) := by
  rw [hK_tput, (sh.2.1 d hd h0).1]
  exact e
theorem tk_u {d : Nat} (sh : TS h m) (hd : d < 57) (h0 : 0 < d) (e : tK d ≤ c) : hK (tput h m w S U) (m + d) ≤ c := by
  rw [hK_tput, (sh.2.1 d hd h0).1]
  exact e
theorem tbd {d : Nat} {e : Int} (sh : TS h m) (hd : d < 57) (h0 : 0 < d) (hn : tL d ≤ 1000000) (h1 : 0 ≤ e) (h2 : e < ((tL d : Nat) : Int)) : ¬ (iI e < 0 ∨ hL (tput h m w S U) (m + d) ≤ (iI e).toNatClampNeg) := by
  rw [hL_tput, (sh.2.1 d hd h0).2]
  exact iI_bd h1 h2 hn
theorem tr_0 (sh : TS h m) : hR (tput h m w S U) m 0 = some (m + 1) := sh.2.2 0 (by decide) (by decide)
theorem tr_3 (sh : TS h m) : hR (tput h m w S U) m 3 = some (m + 2) := sh.2.2 3 (by decide) (by decide)
theorem tr_4 (sh : TS h m) : hR (tput h m w S U) m 4 = some (m + 3) := sh.2.2 4 (by decide) (by decide)
theorem tr_5 (sh : TS h m) : hR (tput h m w S U) m 5 = some (m + 4) := sh.2.2 5 (by decide) (by decide)
theorem tr_6 (sh : TS h m) : hR (tput h m w S U) m 6 = some (m + 5) := sh.2.2 6 (by decide) (by decide)
theorem tr_7 (sh : TS h m) : hR (tput h m w S U) m 7 = some (m + 6) := sh.2.2 7 (by decide) (by decide)
theorem tr_8 (sh : TS h m) : hR (tput h m w S U) m 8 = some (m + 7) := sh.2.2 8 (by decide) (by decide)
theorem tr_9 (sh : TS h m) : hR (tput h m w S U) m 9 = some (m + 8) := sh.2.2 9 (by decide) (by decide)
theorem tr_10 (sh : TS h m) : hR (tput h m w S U) m 10 = some (m + 9) := sh.2.2 10 (by decide) (by decide)
theorem tr_11 (sh : TS h m) : hR (tput h m w S U) m 11 = some (m + 10) := sh.2.2 11 (by decide) (by decide)
theorem tr_12 (sh : TS h m) : hR (tput h m w S U) m 12 = some (m + 11) := sh.2.2 12 (by decide) (by decide)
theorem tr_13 (sh : TS h m) : hR (tput h m w S U) m 13 = some (m + 12) := sh.2.2 13 (by decide) (by decide)
theorem tr_14 (sh : TS h m) : hR (tput h m w S U) m 14 = some (m + 13) := sh.2.2 14 (by decide) (by decide)
theorem tr_15 (sh : TS h m) : hR (tput h m w S U) m 15 = some (m + 14) := sh.2.2 15 (by decide) (by decide)
theorem tr_16 (sh : TS h m) : hR (tput h m w S U) m 16 = some (m + 15) := sh.2.2 16 (by decide) (by decide)
theorem tr_17 (sh : TS h m) : hR (tput h m w S U) m 17 = some (m + 16) := sh.2.2 17 (by decide) (by decide)
theorem tr_18 (sh : TS h m) : hR (tput h m w S U) m 18 = some (m + 17) := sh.2.2 18 (by decide) (by decide)
theorem tr_19 (sh : TS h m) : hR (tput h m w S U) m 19 = some (m + 18) := sh.2.2 19 (by decide) (by decide)
theorem tr_20 (sh : TS h m) : hR (tput h m w S U) m 20 = some (m + 19) := sh.2.2 20 (by decide) (by decide)
theorem tr_21 (sh : TS h m) : hR (tput h m w S U) m 21 = some (m + 20) := sh.2.2 21 (by decide) (by decide)
theorem tr_22 (sh : TS h m) : hR (tput h m w S U) m 22 = some (m + 21) := sh.2.2 22 (by decide) (by decide)
theorem tr_23 (sh : TS h m) : hR (tput h m w S U) m 23 = some (m + 22) := sh.2.2 23 (by decide) (by decide)
theorem tr_24 (sh : TS h m) : hR (tput h m w S U) m 24 = some (m + 23) := sh.2.2 24 (by decide) (by decide)
theorem tr_25 (sh : TS h m) : hR (tput h m w S U) m 25 = some (m + 24) := sh.2.2 25 (by decide) (by decide)
theorem tr_26 (sh : TS h m) : hR (tput h m w S U) m 26 = some (m + 25) := sh.2.2 26 (by decide) (by decide)
theorem tr_27 (sh : TS h m) : hR (tput h m w S U) m 27 = some (m + 26) := sh.2.2 27 (by decide) (by decide)
theorem tr_28 (sh : TS h m) : hR (tput h m w S U) m 28 = some (m + 27) := sh.2.2 28 (by decide) (by decide)
theorem tr_29 (sh : TS h m) : hR (tput h m w S U) m 29 = some (m + 28) := sh.2.2 29 (by decide) (by decide)
theorem tr_30 (sh : TS h m) : hR (tput h m w S U) m 30 = some (m + 29) := sh.2.2 30 (by decide) (by decide)
theorem tr_31 (sh : TS h m) : hR (tput h m w S U) m 31 = some (m + 30) := sh.2.2 31 (by decide) (by decide)
theorem tr_32 (sh : TS h m) : hR (tput h m w S U) m 32 = some (m + 31) := sh.2.2 32 (by decide) (by decide)
theorem tr_33 (sh : TS h m) : hR (tput h m w S U) m 33 = some (m + 32) := sh.2.2 33 (by decide) (by decide)
theorem tr_34 (sh : TS h m) : hR (tput h m w S U) m 34 = some (m + 33) := sh.2.2 34 (by decide) (by decide)
theorem tr_35 (sh : TS h m) : hR (tput h m w S U) m 35 = some (m + 34) := sh.2.2 35 (by decide) (by decide)
theorem tr_36 (sh : TS h m) : hR (tput h m w S U) m 36 = some (m + 35) := sh.2.2 36 (by decide) (by decide)
theorem tr_37 (sh : TS h m) : hR (tput h m w S U) m 37 = some (m + 36) := sh.2.2 37 (by decide) (by decide)
theorem tr_38 (sh : TS h m) : hR (tput h m w S U) m 38 = some (m + 37) := sh.2.2 38 (by decide) (by decide)
theorem tr_39 (sh : TS h m) : hR (tput h m w S U) m 39 = some (m + 38) := sh.2.2 39 (by decide) (by decide)
theorem tr_40 (sh : TS h m) : hR (tput h m w S U) m 40 = some (m + 39) := sh.2.2 40 (by decide) (by decide)
theorem tr_41 (sh : TS h m) : hR (tput h m w S U) m 41 = some (m + 40) := sh.2.2 41 (by decide) (by decide)
theorem tr_42 (sh : TS h m) : hR (tput h m w S U) m 42 = some (m + 41) := sh.2.2 42 (by decide) (by decide)
theorem tr_43 (sh : TS h m) : hR (tput h m w S U) m 43 = some (m + 42) := sh.2.2 43 (by decide) (by decide)
theorem tr_44 (sh : TS h m) : hR (tput h m w S U) m 44 = some (m + 43) := sh.2.2 44 (by decide) (by decide)
theorem tr_45 (sh : TS h m) : hR (tput h m w S U) m 45 = some (m + 44) := sh.2.2 45 (by decide) (by decide)
theorem tr_46 (sh : TS h m) : hR (tput h m w S U) m 46 = some (m + 45) := sh.2.2 46 (by decide) (by decide)
theorem tr_56 (sh : TS h m) : hR (tput h m w S U) m 56 = some (m + 46) := sh.2.2 56 (by decide) (by decide)
theorem tr_58 (sh : TS h m) : hR (tput h m w S U) m 58 = some (m + 47) := sh.2.2 58 (by decide) (by decide)
theorem tr_59 (sh : TS h m) : hR (tput h m w S U) m 59 = some (m + 48) := sh.2.2 59 (by decide) (by decide)
theorem tr_61 (sh : TS h m) : hR (tput h m w S U) m 61 = some (m + 49) := sh.2.2 61 (by decide) (by decide)
theorem tr_62 (sh : TS h m) : hR (tput h m w S U) m 62 = some (m + 50) := sh.2.2 62 (by decide) (by decide)
theorem tr_63 (sh : TS h m) : hR (tput h m w S U) m 63 = some (m + 51) := sh.2.2 63 (by decide) (by decide)
theorem tr_70 (sh : TS h m) : hR (tput h m w S U) m 70 = some (m + 52) := sh.2.2 70 (by decide) (by decide)
theorem tr_71 (sh : TS h m) : hR (tput h m w S U) m 71 = some (m + 53) := sh.2.2 71 (by decide) (by decide)
theorem tr_72 (sh : TS h m) : hR (tput h m w S U) m 72 = some (m + 54) := sh.2.2 72 (by decide) (by decide)
theorem tr_73 (sh : TS h m) : hR (tput h m w S U) m 73 = some (m + 55) := sh.2.2 73 (by decide) (by decide)
theorem tr_74 (sh : TS h m) : hR (tput h m w S U) m 74 = some (m + 56) := sh.2.2 74 (by decide) (by decide)
end TP
