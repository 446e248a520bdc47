/-! THE TWIN: its constructor; printed by gen_ctor.py -/
section CT
variable {r m : Nat} {h : am_H} {Q : am_O → am_H → Prop} {w : Int} {S U : tSt}
/-- the heap behind d of the initialisers -/
def tcon (h : am_H) (m : Nat) : Nat → am_H
  | 0 => h
  | d + 1 => putR (newC (tcon h m d) (tK (d + 1)) (tL (d + 1))) m (tF (d + 1)) (some (hN (tcon h m d)))
theorem tcon_N (d : Nat) : hN (tcon h m d) = hN h + d := by
  induction d with
  | zero => rfl
  | succ d ih => rw [tcon, hN_putR, hN_newC, ih, Nat.add_assoc]
theorem tcon_E (d i : Nat) : hE (tcon h m d) i = hE h i := by
  induction d with
  | zero => rfl
  | succ d ih => rw [tcon, hE_putR, hE_newC, ih]
def tcs : Nat → Nat
  | 0 => 0
  | d + 1 => tcs d + tL (d + 1)
theorem tcon_S (d : Nat) : hS (tcon h m d) = hS h + tcs d := by
  induction d with
  | zero => rfl
  | succ d ih => rw [tcon, hS_putR, hS_newC, ih, tcs, Nat.add_assoc]
theorem tcon_K {a : Nat} (d : Nat) (ha : a < hN h) : hK (tcon h m d) a = hK h a ∧ hL (tcon h m d) a = hL h a := by
  induction d with
  | zero => exact ⟨rfl, rfl⟩
  | succ d ih =>
    have := tcon_N (h := h) (m := m) d
    rw [tcon, hK_putR, hL_putR, hK_newC, hL_newC, if_neg (by omega), if_neg (by omega)]
    exact ih
theorem tcon_A {i : Nat} (d : Nat) (h1 : 1 ≤ i) (h2 : i ≤ d) (hm : hN h = m + 1) : hK (tcon h m d) (m + i) = tK i ∧ hL (tcon h m d) (m + i) = tL i := by
  induction d with
  | zero => omega
  | succ d ih =>
    have := tcon_N (h := h) (m := m) d
    rw [tcon, hK_putR, hL_putR, hK_newC, hL_newC]
    by_cases q : i = d + 1
    · rw [if_pos (by omega), if_pos (by omega), q]
      exact ⟨rfl, rfl⟩
    · rw [if_neg (by omega), if_neg (by omega)]
      exact ih (by omega)
theorem tcon_o {a j : Nat} (d : Nat) (ha : a < m) (hm : hN h = m + 1) : hI (tcon h m d) a j = hI h a j ∧ hJ (tcon h m d) a j = hJ h a j ∧ hR (tcon h m d) a j = hR h a j := by
  induction d with
  | zero => exact ⟨rfl, rfl, rfl⟩
  | succ d ih =>
    have := tcon_N (h := h) (m := m) d
    rw [tcon, hI_putR, hJ_putR, hR_putR, hI_newC, hJ_newC, hR_newC, if_neg (by omega), if_neg (by omega), if_neg (by omega), if_neg (by omega)]
    exact ih
theorem tcon_z {a j : Nat} (d : Nat) (h1 : m ≤ a) (h2 : a ≤ m + d) (hm : hN h = m + 1) (zi : hI h m j = 0) (zj : hJ h m j = 0) : hI (tcon h m d) a j = 0 ∧ hJ (tcon h m d) a j = 0 := by
  induction d with
  | zero =>
    have : a = m := by omega
    rw [this]
    exact ⟨zi, zj⟩
  | succ d ih =>
    have := tcon_N (h := h) (m := m) d
    rw [tcon, hI_putR, hJ_putR, hI_newC, hJ_newC]
    by_cases q : a = hN (tcon h m d)
    · rw [if_pos q, if_pos q]
      exact ⟨rfl, rfl⟩
    · rw [if_neg q, if_neg q]
      exact ih (by omega)
theorem tF_in : ∀ d e : Fin 57, 0 < d.val → 0 < e.val → tF d.val = tF e.val → d = e := by decide
theorem tF_A : ∀ f : Fin 75, tA f.val ≠ 0 → tF (tA f.val) = f.val ∧ tA f.val < 57 := by decide
theorem tcon_R {i : Nat} (d : Nat) (h1 : 1 ≤ i) (h2 : i ≤ d) (hd : d < 57) (hm : hN h = m + 1) : hR (tcon h m d) m (tF i) = some (m + i) := by
  induction d with
  | zero => omega
  | succ d ih =>
    have := tcon_N (h := h) (m := m) d
    rw [tcon, hR_putR, hR_newC]
    by_cases q : i = d + 1
    · subst q
      rw [if_pos ⟨rfl, rfl⟩]
      congr 1
      omega
    · rw [if_neg, if_neg (by omega)]
      · exact ih (by omega) (by omega)
      · intro z
        have := tF_in ⟨i, by omega⟩ ⟨d + 1, by omega⟩ (by show 0 < i; omega) (by show 0 < d + 1; omega) z.2
        exact q (Fin.mk.inj this)
theorem tcon_TS (hk : hK h m = 15) (hm : hN h = m + 1) : TS (tcon h m 56) m := by
  refine ⟨?_, ?_, ?_⟩
  · rw [(tcon_K 56 (by omega)).1]
    exact hk
  · intro d d1 d2
    exact tcon_A 56 (by omega) (by omega) hm
  · intro f f1 f2
    have z := tF_A ⟨f, f1⟩ f2
    have y := tcon_R (h := h) (m := m) (i := tA f) 56 (by have := f2; omega) (by have := z.2; simp only at this; omega) (by omega) hm
    rw [show tF (tA f) = f from z.1] at y
    exact y
def tZ : tSt := fun _ _ => 0
theorem tV_z {d k : Nat} {x : Int} (e : tV 0 tZ tZ d k = some x) : x = 0 := by
  unfold tV tZ at e
  split at e
  · split at e
    · cases e; rfl
    · cases e
  · split at e
    · cases e; rfl
    · split at e
      · cases e; rfl
      · cases e
theorem tcon_put (hm : hN h = m + 1) (zi : ∀ j, hI h m j = 0) (zj : ∀ j, hJ h m j = 0) : tput (tcon h m 56) m 0 tZ tZ = tcon h m 56 := by
  apply tput_id
  intro d k x hd e
  rw [tV_z e]
  have := tcon_z (h := h) (m := m) (a := m + d) (j := k) 56 (by omega) (by omega) hm (zi k) (zj k)
  exact ⟨fun _ => this.1, fun _ => this.2⟩
theorem tc_0 (hk : ∀ c n d, hK (newC (tcon h m d) c n) m = 15) : Rn r 2 4 [some (vR (some m))] [] (tcon h m 0) Q ↔ Rn r 2 13 [some (vR (some m))] [] (tcon h m 1) Q := by
  rw [sX6_init_4, sX6_init_5, sX6_init_8 (by decide), sX6_init_10 (hk _ _ _)]
  exact Iff.rfl
theorem tc_1 (hk : ∀ c n d, hK (newC (tcon h m d) c n) m = 15) : Rn r 2 13 [some (vR (some m))] [] (tcon h m 1) Q ↔ Rn r 2 20 [some (vR (some m))] [] (tcon h m 2) Q := by
  rw [sX6_init_13, sX6_init_14, sX6_init_15 (by decide), sX6_init_17 (hk _ _ _)]
  exact Iff.rfl
theorem tc_2 (hk : ∀ c n d, hK (newC (tcon h m d) c n) m = 15) : Rn r 2 20 [some (vR (some m))] [] (tcon h m 2) Q ↔ Rn r 2 28 [some (vR (some m))] [] (tcon h m 3) Q := by
  rw [sX6_init_20, sX6_init_21, sX6_init_23 (by decide), sX6_init_25 (hk _ _ _)]
  exact Iff.rfl
theorem tc_3 (hk : ∀ c n d, hK (newC (tcon h m d) c n) m = 15) : Rn r 2 28 [some (vR (some m))] [] (tcon h m 3) Q ↔ Rn r 2 36 [some (vR (some m))] [] (tcon h m 4) Q := by
  rw [sX6_init_28, sX6_init_29, sX6_init_31 (by decide), sX6_init_33 (hk _ _ _)]
  exact Iff.rfl
theorem tc_4 (hk : ∀ c n d, hK (newC (tcon h m d) c n) m = 15) : Rn r 2 36 [some (vR (some m))] [] (tcon h m 4) Q ↔ Rn r 2 44 [some (vR (some m))] [] (tcon h m 5) Q := by
  rw [sX6_init_36, sX6_init_37, sX6_init_39 (by decide), sX6_init_41 (hk _ _ _)]
  exact Iff.rfl
theorem tc_5 (hk : ∀ c n d, hK (newC (tcon h m d) c n) m = 15) : Rn r 2 44 [some (vR (some m))] [] (tcon h m 5) Q ↔ Rn r 2 52 [some (vR (some m))] [] (tcon h m 6) Q := by
  rw [sX6_init_44, sX6_init_45, sX6_init_47 (by decide), sX6_init_49 (hk _ _ _)]
  exact Iff.rfl
theorem tc_6 (hk : ∀ c n d, hK (newC (tcon h m d) c n) m = 15) : Rn r 2 52 [some (vR (some m))] [] (tcon h m 6) Q ↔ Rn r 2 60 [some (vR (some m))] [] (tcon h m 7) Q := by
  rw [sX6_init_52, sX6_init_53, sX6_init_55 (by decide), sX6_init_57 (hk _ _ _)]
  exact Iff.rfl
theorem tc_7 (hk : ∀ c n d, hK (newC (tcon h m d) c n) m = 15) : Rn r 2 60 [some (vR (some m))] [] (tcon h m 7) Q ↔ Rn r 2 67 [some (vR (some m))] [] (tcon h m 8) Q := by
  rw [sX6_init_60, sX6_init_61, sX6_init_62 (by decide), sX6_init_64 (hk _ _ _)]
  exact Iff.rfl
theorem tc_8 (hk : ∀ c n d, hK (newC (tcon h m d) c n) m = 15) : Rn r 2 67 [some (vR (some m))] [] (tcon h m 8) Q ↔ Rn r 2 75 [some (vR (some m))] [] (tcon h m 9) Q := by
  rw [sX6_init_67, sX6_init_68, sX6_init_70 (by decide), sX6_init_72 (hk _ _ _)]
  exact Iff.rfl
theorem tc_9 (hk : ∀ c n d, hK (newC (tcon h m d) c n) m = 15) : Rn r 2 75 [some (vR (some m))] [] (tcon h m 9) Q ↔ Rn r 2 83 [some (vR (some m))] [] (tcon h m 10) Q := by
  rw [sX6_init_75, sX6_init_76, sX6_init_78 (by decide), sX6_init_80 (hk _ _ _)]
  exact Iff.rfl
theorem tc_10 (hk : ∀ c n d, hK (newC (tcon h m d) c n) m = 15) : Rn r 2 83 [some (vR (some m))] [] (tcon h m 10) Q ↔ Rn r 2 91 [some (vR (some m))] [] (tcon h m 11) Q := by
  rw [sX6_init_83, sX6_init_84, sX6_init_86 (by decide), sX6_init_88 (hk _ _ _)]
  exact Iff.rfl
theorem tc_11 (hk : ∀ c n d, hK (newC (tcon h m d) c n) m = 15) : Rn r 2 91 [some (vR (some m))] [] (tcon h m 11) Q ↔ Rn r 2 99 [some (vR (some m))] [] (tcon h m 12) Q := by
  rw [sX6_init_91, sX6_init_92, sX6_init_94 (by decide), sX6_init_96 (hk _ _ _)]
  exact Iff.rfl
theorem tc_12 (hk : ∀ c n d, hK (newC (tcon h m d) c n) m = 15) : Rn r 2 99 [some (vR (some m))] [] (tcon h m 12) Q ↔ Rn r 2 107 [some (vR (some m))] [] (tcon h m 13) Q := by
  rw [sX6_init_99, sX6_init_100, sX6_init_102 (by decide), sX6_init_104 (hk _ _ _)]
  exact Iff.rfl
theorem tc_13 (hk : ∀ c n d, hK (newC (tcon h m d) c n) m = 15) : Rn r 2 107 [some (vR (some m))] [] (tcon h m 13) Q ↔ Rn r 2 115 [some (vR (some m))] [] (tcon h m 14) Q := by
  rw [sX6_init_107, sX6_init_108, sX6_init_110 (by decide), sX6_init_112 (hk _ _ _)]
  exact Iff.rfl
theorem tc_14 (hk : ∀ c n d, hK (newC (tcon h m d) c n) m = 15) : Rn r 2 115 [some (vR (some m))] [] (tcon h m 14) Q ↔ Rn r 2 123 [some (vR (some m))] [] (tcon h m 15) Q := by
  rw [sX6_init_115, sX6_init_116, sX6_init_118 (by decide), sX6_init_120 (hk _ _ _)]
  exact Iff.rfl
theorem tc_15 (hk : ∀ c n d, hK (newC (tcon h m d) c n) m = 15) : Rn r 2 123 [some (vR (some m))] [] (tcon h m 15) Q ↔ Rn r 2 131 [some (vR (some m))] [] (tcon h m 16) Q := by
  rw [sX6_init_123, sX6_init_124, sX6_init_126 (by decide), sX6_init_128 (hk _ _ _)]
  exact Iff.rfl
theorem tc_16 (hk : ∀ c n d, hK (newC (tcon h m d) c n) m = 15) : Rn r 2 131 [some (vR (some m))] [] (tcon h m 16) Q ↔ Rn r 2 139 [some (vR (some m))] [] (tcon h m 17) Q := by
  rw [sX6_init_131, sX6_init_132, sX6_init_134 (by decide), sX6_init_136 (hk _ _ _)]
  exact Iff.rfl
theorem tc_17 (hk : ∀ c n d, hK (newC (tcon h m d) c n) m = 15) : Rn r 2 139 [some (vR (some m))] [] (tcon h m 17) Q ↔ Rn r 2 146 [some (vR (some m))] [] (tcon h m 18) Q := by
  rw [sX6_init_139, sX6_init_140, sX6_init_141 (by decide), sX6_init_143 (hk _ _ _)]
  exact Iff.rfl
theorem tc_18 (hk : ∀ c n d, hK (newC (tcon h m d) c n) m = 15) : Rn r 2 146 [some (vR (some m))] [] (tcon h m 18) Q ↔ Rn r 2 155 [some (vR (some m))] [] (tcon h m 19) Q := by
  rw [sX6_init_146, sX6_init_147, sX6_init_150 (by decide), sX6_init_152 (hk _ _ _)]
  exact Iff.rfl
theorem tc_19 (hk : ∀ c n d, hK (newC (tcon h m d) c n) m = 15) : Rn r 2 155 [some (vR (some m))] [] (tcon h m 19) Q ↔ Rn r 2 164 [some (vR (some m))] [] (tcon h m 20) Q := by
  rw [sX6_init_155, sX6_init_156, sX6_init_159 (by decide), sX6_init_161 (hk _ _ _)]
  exact Iff.rfl
theorem tc_20 (hk : ∀ c n d, hK (newC (tcon h m d) c n) m = 15) : Rn r 2 164 [some (vR (some m))] [] (tcon h m 20) Q ↔ Rn r 2 173 [some (vR (some m))] [] (tcon h m 21) Q := by
  rw [sX6_init_164, sX6_init_165, sX6_init_168 (by decide), sX6_init_170 (hk _ _ _)]
  exact Iff.rfl
theorem tc_21 (hk : ∀ c n d, hK (newC (tcon h m d) c n) m = 15) : Rn r 2 173 [some (vR (some m))] [] (tcon h m 21) Q ↔ Rn r 2 182 [some (vR (some m))] [] (tcon h m 22) Q := by
  rw [sX6_init_173, sX6_init_174, sX6_init_177 (by decide), sX6_init_179 (hk _ _ _)]
  exact Iff.rfl
theorem tc_22 (hk : ∀ c n d, hK (newC (tcon h m d) c n) m = 15) : Rn r 2 182 [some (vR (some m))] [] (tcon h m 22) Q ↔ Rn r 2 191 [some (vR (some m))] [] (tcon h m 23) Q := by
  rw [sX6_init_182, sX6_init_183, sX6_init_186 (by decide), sX6_init_188 (hk _ _ _)]
  exact Iff.rfl
theorem tc_23 (hk : ∀ c n d, hK (newC (tcon h m d) c n) m = 15) : Rn r 2 191 [some (vR (some m))] [] (tcon h m 23) Q ↔ Rn r 2 200 [some (vR (some m))] [] (tcon h m 24) Q := by
  rw [sX6_init_191, sX6_init_192, sX6_init_195 (by decide), sX6_init_197 (hk _ _ _)]
  exact Iff.rfl
theorem tc_24 (hk : ∀ c n d, hK (newC (tcon h m d) c n) m = 15) : Rn r 2 200 [some (vR (some m))] [] (tcon h m 24) Q ↔ Rn r 2 209 [some (vR (some m))] [] (tcon h m 25) Q := by
  rw [sX6_init_200, sX6_init_201, sX6_init_204 (by decide), sX6_init_206 (hk _ _ _)]
  exact Iff.rfl
theorem tc_25 (hk : ∀ c n d, hK (newC (tcon h m d) c n) m = 15) : Rn r 2 209 [some (vR (some m))] [] (tcon h m 25) Q ↔ Rn r 2 218 [some (vR (some m))] [] (tcon h m 26) Q := by
  rw [sX6_init_209, sX6_init_210, sX6_init_213 (by decide), sX6_init_215 (hk _ _ _)]
  exact Iff.rfl
theorem tc_26 (hk : ∀ c n d, hK (newC (tcon h m d) c n) m = 15) : Rn r 2 218 [some (vR (some m))] [] (tcon h m 26) Q ↔ Rn r 2 227 [some (vR (some m))] [] (tcon h m 27) Q := by
  rw [sX6_init_218, sX6_init_219, sX6_init_222 (by decide), sX6_init_224 (hk _ _ _)]
  exact Iff.rfl
theorem tc_27 (hk : ∀ c n d, hK (newC (tcon h m d) c n) m = 15) : Rn r 2 227 [some (vR (some m))] [] (tcon h m 27) Q ↔ Rn r 2 236 [some (vR (some m))] [] (tcon h m 28) Q := by
  rw [sX6_init_227, sX6_init_228, sX6_init_231 (by decide), sX6_init_233 (hk _ _ _)]
  exact Iff.rfl
theorem tc_28 (hk : ∀ c n d, hK (newC (tcon h m d) c n) m = 15) : Rn r 2 236 [some (vR (some m))] [] (tcon h m 28) Q ↔ Rn r 2 245 [some (vR (some m))] [] (tcon h m 29) Q := by
  rw [sX6_init_236, sX6_init_237, sX6_init_240 (by decide), sX6_init_242 (hk _ _ _)]
  exact Iff.rfl
theorem tc_29 (hk : ∀ c n d, hK (newC (tcon h m d) c n) m = 15) : Rn r 2 245 [some (vR (some m))] [] (tcon h m 29) Q ↔ Rn r 2 254 [some (vR (some m))] [] (tcon h m 30) Q := by
  rw [sX6_init_245, sX6_init_246, sX6_init_249 (by decide), sX6_init_251 (hk _ _ _)]
  exact Iff.rfl
theorem tc_30 (hk : ∀ c n d, hK (newC (tcon h m d) c n) m = 15) : Rn r 2 254 [some (vR (some m))] [] (tcon h m 30) Q ↔ Rn r 2 263 [some (vR (some m))] [] (tcon h m 31) Q := by
  rw [sX6_init_254, sX6_init_255, sX6_init_258 (by decide), sX6_init_260 (hk _ _ _)]
  exact Iff.rfl
theorem tc_31 (hk : ∀ c n d, hK (newC (tcon h m d) c n) m = 15) : Rn r 2 263 [some (vR (some m))] [] (tcon h m 31) Q ↔ Rn r 2 272 [some (vR (some m))] [] (tcon h m 32) Q := by
  rw [sX6_init_263, sX6_init_264, sX6_init_267 (by decide), sX6_init_269 (hk _ _ _)]
  exact Iff.rfl
theorem tc_32 (hk : ∀ c n d, hK (newC (tcon h m d) c n) m = 15) : Rn r 2 272 [some (vR (some m))] [] (tcon h m 32) Q ↔ Rn r 2 281 [some (vR (some m))] [] (tcon h m 33) Q := by
  rw [sX6_init_272, sX6_init_273, sX6_init_276 (by decide), sX6_init_278 (hk _ _ _)]
  exact Iff.rfl
theorem tc_33 (hk : ∀ c n d, hK (newC (tcon h m d) c n) m = 15) : Rn r 2 281 [some (vR (some m))] [] (tcon h m 33) Q ↔ Rn r 2 290 [some (vR (some m))] [] (tcon h m 34) Q := by
  rw [sX6_init_281, sX6_init_282, sX6_init_285 (by decide), sX6_init_287 (hk _ _ _)]
  exact Iff.rfl
theorem tc_34 (hk : ∀ c n d, hK (newC (tcon h m d) c n) m = 15) : Rn r 2 290 [some (vR (some m))] [] (tcon h m 34) Q ↔ Rn r 2 299 [some (vR (some m))] [] (tcon h m 35) Q := by
  rw [sX6_init_290, sX6_init_291, sX6_init_294 (by decide), sX6_init_296 (hk _ _ _)]
  exact Iff.rfl
theorem tc_35 (hk : ∀ c n d, hK (newC (tcon h m d) c n) m = 15) : Rn r 2 299 [some (vR (some m))] [] (tcon h m 35) Q ↔ Rn r 2 308 [some (vR (some m))] [] (tcon h m 36) Q := by
  rw [sX6_init_299, sX6_init_300, sX6_init_303 (by decide), sX6_init_305 (hk _ _ _)]
  exact Iff.rfl
theorem tc_36 (hk : ∀ c n d, hK (newC (tcon h m d) c n) m = 15) : Rn r 2 308 [some (vR (some m))] [] (tcon h m 36) Q ↔ Rn r 2 317 [some (vR (some m))] [] (tcon h m 37) Q := by
  rw [sX6_init_308, sX6_init_309, sX6_init_312 (by decide), sX6_init_314 (hk _ _ _)]
  exact Iff.rfl
theorem tc_37 (hk : ∀ c n d, hK (newC (tcon h m d) c n) m = 15) : Rn r 2 317 [some (vR (some m))] [] (tcon h m 37) Q ↔ Rn r 2 326 [some (vR (some m))] [] (tcon h m 38) Q := by
  rw [sX6_init_317, sX6_init_318, sX6_init_321 (by decide), sX6_init_323 (hk _ _ _)]
  exact Iff.rfl
theorem tc_38 (hk : ∀ c n d, hK (newC (tcon h m d) c n) m = 15) : Rn r 2 326 [some (vR (some m))] [] (tcon h m 38) Q ↔ Rn r 2 333 [some (vR (some m))] [] (tcon h m 39) Q := by
  rw [sX6_init_326, sX6_init_327, sX6_init_328 (by decide), sX6_init_330 (hk _ _ _)]
  exact Iff.rfl
theorem tc_39 (hk : ∀ c n d, hK (newC (tcon h m d) c n) m = 15) : Rn r 2 333 [some (vR (some m))] [] (tcon h m 39) Q ↔ Rn r 2 342 [some (vR (some m))] [] (tcon h m 40) Q := by
  rw [sX6_init_333, sX6_init_334, sX6_init_337 (by decide), sX6_init_339 (hk _ _ _)]
  exact Iff.rfl
theorem tc_40 (hk : ∀ c n d, hK (newC (tcon h m d) c n) m = 15) : Rn r 2 342 [some (vR (some m))] [] (tcon h m 40) Q ↔ Rn r 2 351 [some (vR (some m))] [] (tcon h m 41) Q := by
  rw [sX6_init_342, sX6_init_343, sX6_init_346 (by decide), sX6_init_348 (hk _ _ _)]
  exact Iff.rfl
theorem tc_41 (hk : ∀ c n d, hK (newC (tcon h m d) c n) m = 15) : Rn r 2 351 [some (vR (some m))] [] (tcon h m 41) Q ↔ Rn r 2 360 [some (vR (some m))] [] (tcon h m 42) Q := by
  rw [sX6_init_351, sX6_init_352, sX6_init_355 (by decide), sX6_init_357 (hk _ _ _)]
  exact Iff.rfl
theorem tc_42 (hk : ∀ c n d, hK (newC (tcon h m d) c n) m = 15) : Rn r 2 360 [some (vR (some m))] [] (tcon h m 42) Q ↔ Rn r 2 369 [some (vR (some m))] [] (tcon h m 43) Q := by
  rw [sX6_init_360, sX6_init_361, sX6_init_364 (by decide), sX6_init_366 (hk _ _ _)]
  exact Iff.rfl
theorem tc_43 (hk : ∀ c n d, hK (newC (tcon h m d) c n) m = 15) : Rn r 2 369 [some (vR (some m))] [] (tcon h m 43) Q ↔ Rn r 2 378 [some (vR (some m))] [] (tcon h m 44) Q := by
  rw [sX6_init_369, sX6_init_370, sX6_init_373 (by decide), sX6_init_375 (hk _ _ _)]
  exact Iff.rfl
theorem tc_44 (hk : ∀ c n d, hK (newC (tcon h m d) c n) m = 15) : Rn r 2 378 [some (vR (some m))] [] (tcon h m 44) Q ↔ Rn r 2 387 [some (vR (some m))] [] (tcon h m 45) Q := by
  rw [sX6_init_378, sX6_init_379, sX6_init_382 (by decide), sX6_init_384 (hk _ _ _)]
  exact Iff.rfl
theorem tc_45 (hk : ∀ c n d, hK (newC (tcon h m d) c n) m = 15) : Rn r 2 387 [some (vR (some m))] [] (tcon h m 45) Q ↔ Rn r 2 395 [some (vR (some m))] [] (tcon h m 46) Q := by
  rw [sX6_init_387, sX6_init_388, sX6_init_390 (by decide), sX6_init_392 (hk _ _ _)]
  exact Iff.rfl
theorem tc_46 (hk : ∀ c n d, hK (newC (tcon h m d) c n) m = 15) : Rn r 2 395 [some (vR (some m))] [] (tcon h m 46) Q ↔ Rn r 2 404 [some (vR (some m))] [] (tcon h m 47) Q := by
  rw [sX6_init_395, sX6_init_396, sX6_init_399 (by decide), sX6_init_401 (hk _ _ _)]
  exact Iff.rfl
theorem tc_47 (hk : ∀ c n d, hK (newC (tcon h m d) c n) m = 15) : Rn r 2 404 [some (vR (some m))] [] (tcon h m 47) Q ↔ Rn r 2 413 [some (vR (some m))] [] (tcon h m 48) Q := by
  rw [sX6_init_404, sX6_init_405, sX6_init_408 (by decide), sX6_init_410 (hk _ _ _)]
  exact Iff.rfl
theorem tc_48 (hk : ∀ c n d, hK (newC (tcon h m d) c n) m = 15) : Rn r 2 413 [some (vR (some m))] [] (tcon h m 48) Q ↔ Rn r 2 422 [some (vR (some m))] [] (tcon h m 49) Q := by
  rw [sX6_init_413, sX6_init_414, sX6_init_417 (by decide), sX6_init_419 (hk _ _ _)]
  exact Iff.rfl
theorem tc_49 (hk : ∀ c n d, hK (newC (tcon h m d) c n) m = 15) : Rn r 2 422 [some (vR (some m))] [] (tcon h m 49) Q ↔ Rn r 2 431 [some (vR (some m))] [] (tcon h m 50) Q := by
  rw [sX6_init_422, sX6_init_423, sX6_init_426 (by decide), sX6_init_428 (hk _ _ _)]
  exact Iff.rfl
theorem tc_50 (hk : ∀ c n d, hK (newC (tcon h m d) c n) m = 15) : Rn r 2 431 [some (vR (some m))] [] (tcon h m 50) Q ↔ Rn r 2 440 [some (vR (some m))] [] (tcon h m 51) Q := by
  rw [sX6_init_431, sX6_init_432, sX6_init_435 (by decide), sX6_init_437 (hk _ _ _)]
  exact Iff.rfl
theorem tc_51 (hk : ∀ c n d, hK (newC (tcon h m d) c n) m = 15) : Rn r 2 440 [some (vR (some m))] [] (tcon h m 51) Q ↔ Rn r 2 448 [some (vR (some m))] [] (tcon h m 52) Q := by
  rw [sX6_init_440, sX6_init_441, sX6_init_443 (by decide), sX6_init_445 (hk _ _ _)]
  exact Iff.rfl
theorem tc_52 (hk : ∀ c n d, hK (newC (tcon h m d) c n) m = 15) : Rn r 2 448 [some (vR (some m))] [] (tcon h m 52) Q ↔ Rn r 2 456 [some (vR (some m))] [] (tcon h m 53) Q := by
  rw [sX6_init_448, sX6_init_449, sX6_init_451 (by decide), sX6_init_453 (hk _ _ _)]
  exact Iff.rfl
theorem tc_53 (hk : ∀ c n d, hK (newC (tcon h m d) c n) m = 15) : Rn r 2 456 [some (vR (some m))] [] (tcon h m 53) Q ↔ Rn r 2 464 [some (vR (some m))] [] (tcon h m 54) Q := by
  rw [sX6_init_456, sX6_init_457, sX6_init_459 (by decide), sX6_init_461 (hk _ _ _)]
  exact Iff.rfl
theorem tc_54 (hk : ∀ c n d, hK (newC (tcon h m d) c n) m = 15) : Rn r 2 464 [some (vR (some m))] [] (tcon h m 54) Q ↔ Rn r 2 472 [some (vR (some m))] [] (tcon h m 55) Q := by
  rw [sX6_init_464, sX6_init_465, sX6_init_467 (by decide), sX6_init_469 (hk _ _ _)]
  exact Iff.rfl
theorem tc_55 (hk : ∀ c n d, hK (newC (tcon h m d) c n) m = 15) : Rn r 2 472 [some (vR (some m))] [] (tcon h m 55) Q ↔ Rn r 2 481 [some (vR (some m))] [] (tcon h m 56) Q := by
  rw [sX6_init_472, sX6_init_473, sX6_init_476 (by decide), sX6_init_478 (hk _ _ _)]
  exact Iff.rfl
theorem tw_init (hk : hK h m = 15) (hm : hN h = m + 1) (zi : ∀ j, hI h m j = 0) (zj : ∀ j, hJ h m j = 0) :
    Cl r 2 [vR (some m)] h Q ↔ Q (Sum.inl none) (tput (tcon h m 56) m 0 tZ (tClear 0 tZ)) := by
  have kk : ∀ c n d, hK (newC (tcon h m d) c n) m = 15 := fun c n d => by
    have := tcon_N (h := h) (m := m) d
    rw [hK_newC, if_neg (by omega), (tcon_K d (by omega)).1]
    exact hk
  have sh := tcon_TS hk hm
  rw [eX6_init, sX6_init_0, sX6_init_1]
  rw [show h = tcon h m 0 from rfl]
  rw [tc_0 kk, tc_1 kk, tc_2 kk, tc_3 kk, tc_4 kk, tc_5 kk, tc_6 kk, tc_7 kk, tc_8 kk, tc_9 kk, tc_10 kk, tc_11 kk, tc_12 kk, tc_13 kk, tc_14 kk, tc_15 kk, tc_16 kk, tc_17 kk, tc_18 kk, tc_19 kk, tc_20 kk, tc_21 kk, tc_22 kk, tc_23 kk, tc_24 kk, tc_25 kk, tc_26 kk, tc_27 kk, tc_28 kk, tc_29 kk, tc_30 kk, tc_31 kk, tc_32 kk, tc_33 kk, tc_34 kk, tc_35 kk, tc_36 kk, tc_37 kk, tc_38 kk, tc_39 kk, tc_40 kk, tc_41 kk, tc_42 kk, tc_43 kk, tc_44 kk, tc_45 kk, tc_46 kk, tc_47 kk, tc_48 kk, tc_49 kk, tc_50 kk, tc_51 kk, tc_52 kk, tc_53 kk, tc_54 kk, tc_55 kk]
  rw [sX6_init_481, sX6_init_482, sX6_init_483 sh.1]
  rw [show tcon (tcon h m 0) m 56 = tcon h m 56 from rfl]
  rw [← tcon_put hm zi zj]
  rw [i_0, tw_clear0 (w := 0) (S := tZ) (tcon_TS hk hm) rfl (by decide) (by decide), Kt_0, sX6_init_486, tcon_put hm zi zj]
end CT
