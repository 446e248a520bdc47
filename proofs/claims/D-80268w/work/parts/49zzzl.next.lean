/-! COMPONENT, 9: the next token *-/
/-- a byte as it lies on the component's tape -/
def sB (x : Int) : Int := if x < 128 then x else x - 256
/-- the reader and its text -/
def TRr (v : vT) (rd tp : Nat) (t : Int → Int) (n : Int) : Prop :=
  hK v.1 rd = 2 ∧ hK v.1 tp = 44 ∧ hL v.1 tp = 2000 ∧ hR v.1 rd 1 = some tp ∧ hI v.1 rd 2 = iI n ∧ ∀ p, 0 ≤ p → p < 2000 → hI v.1 tp p.toNat = iI (sB (t p))
/-- the word at hand -/
def TW (v : vT) (rd : Nat) (x : Int) : Prop := (x = 0 ∧ hR v.1 rd 5 = none) ∨ (x ≠ 0 ∧ ∃ a, hR v.1 rd 5 = some a ∧ hK v.1 a = 10 ∧ wN (vTx v a) = x ∧ okK (vTx v a))
/-- the token at hand -/
def TR (v : vT) (rd tp : Nat) (S : tSt) : Prop := TRr v rd tp (S 0) (S 48 0) ∧ hI v.1 rd 3 = iI (S 47 0) ∧ hI v.1 rd 4 = iI (S 49 0) ∧ hI v.1 rd 6 = iI (S 51 0) ∧ TW v rd (S 50 0)
/-- what a look at a token may change -/
def Xt (rd : Nat) (a k : Nat) : Prop := a = rd ∧ 3 ≤ k ∧ k ≤ 6
section NXS
variable {r rd tp wr a b : Nat} {h : am_H} {v v' : vT} {t : Int → Int} {n p x : Int} {S : tSt} {X : Nat → Nat → Prop} {Q : am_O → am_H → Prop}
theorem TRr_fw (f : Fw X v v') (x : TRr v rd tp t n) (h1 : ¬ X rd 1) (h2 : ¬ X rd 2) (h3 : ∀ k, ¬ X tp k) : TRr v' rd tp t n := by
  obtain ⟨a1, a2, a3, a4, a5, a6⟩ := x
  have lr := hK_lt a1 (by decide)
  have lt := hK_lt a2 (by decide)
  exact ⟨f.kk a1 (by decide), f.kk a2 (by decide), by rw [(f.2.2 tp lt).2.1]; exact a3, by rw [(f.ff lr h1).2.2]; exact a4, by rw [(f.ff lr h2).1]; exact a5, fun p p0 p1 => by rw [(f.ff lt (h3 _)).1]; exact a6 p p0 p1⟩
theorem TRr_ft (f : Fw (Xt rd) v v') (x : TRr v rd tp t n) : TRr v' rd tp t n := by
  refine TRr_fw f x (fun z => by have := z.2.1; omega) (fun z => by have := z.2.1; omega) (fun k z => ?_)
  have e := z.1
  have h1 := x.1
  have h2 := x.2.1
  rw [e, h1] at h2
  exact absurd h2 (by decide)
theorem c_isLetter (h1 : -2147483648 ≤ x) (h2 : x < 2147483648) : Cl r 122 [vI (iI x)] h Q ↔ Q (Sum.inl (some (vI (bI (97 ≤ x ∧ x ≤ 122))))) h := by
  rw [eX1_isLetter, sX1_isLetter_0, sX1_isLetter_1, sX1_isLetter_3, i_97]
  have l1 : iI x < iI 97 ↔ x < 97 := iI_lt h1 h2 (by omega) (by omega)
  have l2 : iI 122 < iI x ↔ 122 < x := iI_lt (by omega) (by omega) h1 h2
  by_cases p : x < 97
  · rw [if_pos (l1.mpr p), sX1_isLetter_16, sX1_isLetter_17 rfl]
    unfold bI
    rw [if_neg (by omega)]
  · rw [if_neg (fun z => p (l1.mp z)), sX1_isLetter_6, sX1_isLetter_7, sX1_isLetter_9, i_122]
    by_cases q : 122 < x
    · rw [if_pos (l2.mpr q), sX1_isLetter_16, sX1_isLetter_17 rfl]
      unfold bI
      rw [if_neg (by omega)]
    · rw [if_neg (fun z => q (l2.mp z)), sX1_isLetter_12, sX1_isLetter_13, sX1_isLetter_17 rfl]
      unfold bI
      rw [if_pos (by omega)]
/-- the reader's exception -/
def RW (v : vT) (rd wr : Nat) : Prop := hK v.1 rd = 2 ∧ hR v.1 rd 0 = some wr ∧ hK v.1 wr = 3
theorem c_wrongAt {x : Int32} (c : CR h v) (w : RW v rd wr) (q : CR (putI h wr 6 x) (vpI v wr 6 x) → Q (Sum.inl (some (vR (some wr)))) (putI h wr 6 x)) : Cl r 123 [vR (some rd), vI x] h Q := by
  obtain ⟨k1, w1, w2⟩ := w
  have kr := c.kk k1 (by decide)
  have kw := c.kk w2 (by decide)
  have rw1 : hR h rd 0 = some wr := by rw [c.rr k1 rfl]; exact w1
  rw [eX1_wrongAt, sX1_wrongAt_0, sX1_wrongAt_1 kr, rw1, sX1_wrongAt_4, sX1_wrongAt_5 kw, sX1_wrongAt_8, sX1_wrongAt_9 (by rw [hK_putI]; exact kr), hR_putI, rw1, sX1_wrongAt_12]
  exact q (CR_pI c w2 rfl)
theorem TRr.raw (c : CR h v) (x : TRr v rd tp t n) : hK h rd = 2 ∧ hK h tp = 44 ∧ hL h tp = 2000 ∧ hR h rd 1 = some tp ∧ hI h rd 2 = iI n ∧ ∀ p, 0 ≤ p → p < 2000 → hI h tp p.toNat = iI (sB (t p)) := by
  obtain ⟨a1, a2, a3, a4, a5, a6⟩ := x
  exact ⟨c.kk a1 (by decide), c.kk a2 (by decide), by rw [c.hl a2 (by decide) (wk_all rfl).2.1]; exact a3, by rw [c.rr a1 rfl]; exact a4, by rw [c.ii a1 rfl]; exact a5, fun p p0 p1 => by rw [c.ii a2 rfl]; exact a6 p p0 p1⟩
theorem sB_b (t0 : 0 ≤ x) (t1 : x ≤ 255) : -128 ≤ sB x ∧ sB x ≤ 127 := by
  unfold sB
  split <;> omega
theorem sB_e {y : Int} (t0 : 0 ≤ x) (t1 : x ≤ 255) (y0 : 0 ≤ y) (y1 : y ≤ 127) : sB x = y ↔ x = y := by
  unfold sB
  split <;> omega
theorem sB_l (t0 : 0 ≤ x) (t1 : x ≤ 255) : (97 ≤ sB x ∧ sB x ≤ 122) ↔ (97 ≤ x ∧ x ≤ 122) := by
  unfold sB
  split <;> omega
theorem nx_skip {l1 l2 l3 : Option am_V} (tb : ∀ j, 0 ≤ t j ∧ t j ≤ 255) (n2 : n ≤ 2000) : ∀ (d : Nat) (p : Int) (h : am_H) (v : vT), CR h v → TRr v rd tp t n → hI v.1 rd 3 = iI p → 0 ≤ p → p + d = n →
    (∀ h' v', CR h' v' → Fw (Xt rd) v v' → hI v'.1 rd 3 = iI (tSkip t d p) → hN v'.1 = hN v.1 → hS v'.1 = hS v.1 → Rn r 80 52 [some (vR (some rd)), l1, l2, l3] [] h' Q) →
    Rn r 80 0 [some (vR (some rd)), l1, l2, l3] [] h Q := by
  intro d
  induction d with
  | zero =>
    intro p h v c x e p0 p1 q
    obtain ⟨a1, a2, a3, a4, a5, a6⟩ := x.raw c
    have ea : hI h rd 3 = iI p := by rw [c.ii x.1 rfl]; exact e
    rw [sX1_next_0, sX1_next_1 a1, ea, sX1_next_4, sX1_next_5 a1, a5, sX1_next_8, if_pos (by rw [iI_le (by omega) (by omega) (by omega) (by omega)]; omega)]
    exact q h v c Fw.refl e rfl rfl
  | succ d ih =>
    intro p h v c x e p0 p1 q
    obtain ⟨a1, a2, a3, a4, a5, a6⟩ := x.raw c
    have ea : hI h rd 3 = iI p := by rw [c.ii x.1 rfl]; exact e
    have bp := tb p
    have bs := sB_b bp.1 bp.2
    have eb : hI h tp (iI p).toNatClampNeg = iI (sB (t p)) := by rw [iI_nat (by omega) (by omega)]; exact a6 p p0 (by omega)
    have bd : ¬ (iI p < 0 ∨ hL h tp ≤ (iI p).toNatClampNeg) := by rw [a3]; exact iI_bd p0 (by omega) (by omega)
    rw [sX1_next_0, sX1_next_1 a1, ea, sX1_next_4, sX1_next_5 a1, a5, sX1_next_8, if_neg (by rw [iI_le (by omega) (by omega) (by omega) (by omega)]; omega), sX1_next_11, sX1_next_12 a1, a4, sX1_next_15, sX1_next_16 a1, ea, sX1_next_19 (by omega) (by omega) bd, eb, sX1_next_20, sX1_next_22, i_32]
    have l32 : iI (sB (t p)) = iI 32 ↔ t p = 32 := by rw [iI_eq (by omega) (by omega) (by omega) (by omega), sB_e bp.1 bp.2 (by omega) (by omega)]
    rw [tSkip] at q
    have go : (t p = 32 ∨ t p = 10) → Rn r 80 39 [some (vR (some rd)), l1, l2, l3] [] h Q := by
      intro z
      rw [if_pos z] at q
      have ej : iI p + (1 : Int32) = iI (p + 1) := by rw [i_1, iI_add]
      rw [sX1_next_39, sX1_next_40, sX1_next_41 a1, ea, sX1_next_44, sX1_next_45, ej, sX1_next_46 a1, sX1_next_49]
      have f1 : Fw (Xt rd) v (vpI v rd 3 (iI (p + 1))) := Fw.refl.pI (Or.inr ⟨rfl, by omega, by omega⟩)
      refine ih (p + 1) _ _ (CR_pI c x.1 rfl) (TRr_ft f1 x) (by rw [vpI_1, hI_putI, if_pos ⟨rfl, rfl⟩]) (by omega) (by omega) (fun h' v' c' f' e' n' s' => ?_)
      exact q h' v' c' (f1.trans f') e' n' s'
    by_cases q1 : t p = 32
    · rw [if_pos (l32.mpr q1)]
      exact go (Or.inl q1)
    · rw [if_neg (fun z => q1 (l32.mp z)), sX1_next_25, sX1_next_26 a1, a4, sX1_next_29, sX1_next_30 a1, ea, sX1_next_33 (by omega) (by omega) bd, eb, sX1_next_34, sX1_next_36, i_10]
      by_cases q2 : t p = 10
      · rw [if_neg (fun z => z (by rw [iI_eq (by omega) (by omega) (by omega) (by omega), sB_e bp.1 bp.2 (by omega) (by omega)]; exact q2))]
        exact go (Or.inr q2)
      · rw [if_pos (by rw [ne_eq, iI_eq (by omega) (by omega) (by omega) (by omega), sB_e bp.1 bp.2 (by omega) (by omega)]; exact q2)]
        rw [if_neg (by omega)] at q
        exact q h v c Fw.refl e rfl rfl
theorem nx_let {l2 l3 : Option am_V} (tb : ∀ j, 0 ≤ t j ∧ t j ≤ 255) (n2 : n ≤ 2000) (c : CR h v) (x : TRr v rd tp t n) (e : hI v.1 rd 3 = iI p) (p0 : 0 ≤ p) : ∀ (d : Nat) (k : Int), 0 ≤ k → p + k + d = n →
    (Rn r 80 84 [some (vR (some rd)), some (vI (iI k)), l2, l3] [] h Q ↔ Rn r 80 120 [some (vR (some rd)), some (vI (iI (tEnd t d (p + k) - p))), l2, l3] [] h Q) := by
  obtain ⟨a1, a2, a3, a4, a5, a6⟩ := x.raw c
  have ea : hI h rd 3 = iI p := by rw [c.ii x.1 rfl]; exact e
  intro d
  induction d with
  | zero =>
    intro k k0 k1
    rw [sX1_next_84, sX1_next_85 a1, ea, sX1_next_88, sX1_next_89, iI_add, sX1_next_90, sX1_next_91 a1, a5, sX1_next_94, if_pos (by rw [iI_le (by omega) (by omega) (by omega) (by omega)]; omega), tEnd, show p + k - p = k by omega]
  | succ d ih =>
    intro k k0 k1
    have bp := tb (p + k)
    have bs := sB_b bp.1 bp.2
    have eb : hI h tp (iI (p + k)).toNatClampNeg = iI (sB (t (p + k))) := by rw [iI_nat (by omega) (by omega)]; exact a6 (p + k) (by omega) (by omega)
    have bd : ¬ (iI (p + k) < 0 ∨ hL h tp ≤ (iI (p + k)).toNatClampNeg) := by rw [a3]; exact iI_bd (by omega) (by omega) (by omega)
    have ej : iI k + (1 : Int32) = iI (k + 1) := by rw [i_1, iI_add]
    rw [sX1_next_84, sX1_next_85 a1, ea, sX1_next_88, sX1_next_89, iI_add, sX1_next_90, sX1_next_91 a1, a5, sX1_next_94, if_neg (by rw [iI_le (by omega) (by omega) (by omega) (by omega)]; omega), sX1_next_97, sX1_next_98 a1, a4, sX1_next_101, sX1_next_102 a1, ea, sX1_next_105, sX1_next_106, iI_add, sX1_next_107 (by omega) (by omega) bd, eb, sX1_next_108, c_isLetter (by omega) (by omega), Kt_v, sX1_next_111, i_0, tEnd]
    by_cases q : 97 ≤ t (p + k) ∧ t (p + k) ≤ 122
    · rw [if_neg (fun z => bI_0.mp z ((sB_l bp.1 bp.2).mpr q)), if_pos q, sX1_next_114, ej, sX1_next_117, ih (k + 1) (by omega) (by omega), show p + (k + 1) = p + k + 1 by omega]
    · rw [if_pos (bI_0.mpr (fun z => q ((sB_l bp.1 bp.2).mp z))), if_neg q, show p + k - p = k by omega]
/-- letters of the tape as a text -/
def tpT (t : Int → Int) (p : Int) (k : Nat) : List Int32 := (List.range k).map (fun (i : Nat) => iI (t (p + i)))
theorem tpT_s {k : Nat} : tpT t p (k + 1) = tpT t p k ++ [iI (t (p + k))] := by
  unfold tpT
  rw [List.range_succ, List.map_append]
  rfl
theorem tpT_len {k : Nat} : (tpT t p k).length = k := by
  unfold tpT
  rw [List.length_map, List.length_range]
theorem let_c (a0 : 97 ≤ x) (a1 : x ≤ 122) : ((iI x).toUInt32 % 65536).toInt32 = iI x ∧ (iI x).toInt8.toInt32 = iI x := by
  have : ∀ k : Fin 26, ((iI (97 + (k.val : Int))).toUInt32 % 65536).toInt32 = iI (97 + (k.val : Int)) ∧ (iI (97 + (k.val : Int))).toInt8.toInt32 = iI (97 + (k.val : Int)) := by decide
  have z := this ⟨(x - 97).toNat, by omega⟩
  rw [show (97 + (((x - 97).toNat : Nat) : Int)) = x by omega] at z
  exact z
theorem nx_app {m : Nat} (m8 : m ≤ 8) (tb : ∀ j, 0 ≤ t j ∧ t j ≤ 255) (n2 : n ≤ 2000) (p0 : 0 ≤ p) (pm : p + m ≤ n) (lt : ∀ i : Nat, i < m → 97 ≤ t (p + i) ∧ t (p + i) ≤ 122) : ∀ (d k : Nat) (h : am_H) (v : vT), k + d = m → CR h v → TRr v rd tp t n → hI v.1 rd 3 = iI p → hK v.1 b = 16 → vTx v b = tpT t p k →
    (∀ h' v', CR h' v' → Fw (fun a k => a = b ∧ k = 99) v v' → vTx v' b = tpT t p m → hN v'.1 ≤ hN v.1 + d → hS v.1 ≤ hS v'.1 → hS v'.1 ≤ hS v.1 + 20 * d → Rn r 80 178 [some (vR (some rd)), some (vI (iI m)), some (vR (some b)), some (vI (iI m))] [] h' Q) →
    Rn r 80 150 [some (vR (some rd)), some (vI (iI m)), some (vR (some b)), some (vI (iI k))] [] h Q := by
  intro d
  induction d with
  | zero =>
    intro k h v hk c x e kb tx q
    rw [sX1_next_150, sX1_next_151, sX1_next_152, if_pos (by rw [iI_le (by omega) (by omega) (by omega) (by omega)]; omega)]
    rw [show k = m by omega] at tx ⊢
    exact q h v c Fw.refl tx (by omega) (by omega) (by omega)
  | succ d ih =>
    intro k h v hk c x e kb tx q
    obtain ⟨a1, a2, a3, a4, a5, a6⟩ := x.raw c
    have ea : hI h rd 3 = iI p := by rw [c.ii x.1 rfl]; exact e
    have bp := tb (p + k)
    have lk := lt k (by omega)
    have eb : hI h tp (iI (p + k)).toNatClampNeg = iI (t (p + k)) := by
      rw [iI_nat (by omega) (by omega), a6 (p + k) (by omega) (by omega)]
      unfold sB
      rw [if_pos (by omega)]
    have bd : ¬ (iI (p + k) < 0 ∨ hL h tp ≤ (iI (p + k)).toNatClampNeg) := by rw [a3]; exact iI_bd (by omega) (by omega) (by omega)
    have ej : iI (k : Int) + (1 : Int32) = iI ((k + 1 : Nat) : Int) := by rw [i_1, iI_add]; congr 1
    obtain ⟨lc1, lc2⟩ := let_c lk.1 lk.2
    rw [sX1_next_150, sX1_next_151, sX1_next_152, if_neg (by rw [iI_le (by omega) (by omega) (by omega) (by omega)]; omega), sX1_next_155, sX1_next_156, sX1_next_157 a1, a4, sX1_next_160, sX1_next_161 a1, ea, sX1_next_164, sX1_next_165, iI_add, sX1_next_166 (by omega) (by omega) bd, eb, sX1_next_167, lc1, sX1_next_168 (c.kk kb (by decide))]
    have ln : (vTx v b).length = k := by rw [tx, tpT_len]
    refine v_apc c kb (by omega) (by omega) (by omega) (fun h' n' s' c' b1 b2 b3 b4 => ?_)
    rw [lc2, tx, ← tpT_s] at c'
    rw [Kt_v, sX1_next_171, sX1_next_172, ej, sX1_next_175]
    have f1 : Fw (fun a k => a = b ∧ k = 99) v (vsT (vbm v n' s') b (tpT t p (k + 1))) := (Fw.refl.bm b1).sT (Or.inr ⟨rfl, rfl⟩)
    have nb : rd ≠ b := fun z => by have := x.1; rw [z, kb] at this; exact absurd this (by decide)
    refine ih (k + 1) _ _ (by omega) c' (TRr_fw f1 x (fun z => absurd z.2 (by decide)) (fun z => absurd z.2 (by decide)) (fun j z => ?_)) (by rw [(f1.ff (hK_lt x.1 (by decide)) (fun z => nb z.1)).1]; exact e) (f1.kk kb (by decide)) (if_pos rfl) (fun h2 v2 c2 f2 t2 g1 g2 g3 => ?_)
    · have := x.2.1
      rw [z.1, kb] at this
      exact absurd this (by decide)
    · have w1 : hN (vsT (vbm v n' s') b (tpT t p (k + 1))).1 = n' := rfl
      have w2 : hS (vsT (vbm v n' s') b (tpT t p (k + 1))).1 = s' := rfl
      rw [w1] at g1
      rw [w2] at g2 g3
      exact q h2 v2 c2 (f1.trans f2) t2 (by omega) (by omega) (by omega)
end NXS
