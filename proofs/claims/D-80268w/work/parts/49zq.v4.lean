/-! THE VIEW, 4: lists *-/
section VR
variable {g : Nat → Nat} {h h' : am_H} {v : vT} {a b k j c n s l m e e' : Nat} {x : Int32} {y : Int64} {z : Option Nat} {L L' : List (Option Nat)} {T t : List Int32}
/-- a new cell's owner -/
def gN (g : Nat → Nat) (n a : Nat) (b : Nat) : Nat := if b = n then a else g b
theorem gN_ne (q : b ≠ n) : gN g n a b = g b := if_neg q
theorem gN_eq : gN g n a n = a := if_pos rfl
theorem CR.ls (c : CR h v) (ha : hK v.1 a = 4) : ∃ e, AL h a e (vLs v a) ∧ (hK h e = 46 ∨ (hK h e = 47 ∧ hL h e = 0 ∧ e = hE h 31)) ∧ e < hN h ∧ hL h e = vCp v a ∧ vCp v a ≤ 30000 ∧ e ≠ a := by
  have ka := c.kk ha (by decide)
  have la := c.lt (by rw [ha]; decide)
  obtain ⟨g, c1, c2, c3, c4, c5⟩ := c
  obtain ⟨e, e1, e2, e3, e4, e5, e6, e7, e8⟩ := (c5 a la).2.2.1 ha
  have k46 : hK h e = 46 ∨ (hK h e = 47 ∧ hL h e = 0 ∧ e = hE h 31) := by
    rcases e3 with ⟨z, _⟩ | ⟨z1, z2, z3, z4⟩
    · exact Or.inl z
    · exact Or.inr ⟨z1, by omega, z3⟩
  refine ⟨e, ⟨ka, e4, e1, by omega, by omega, by omega, by omega, e8⟩, k46, e2, e5, e7, ?_⟩
  rintro rfl
  omega
/-- a list's own cells change -/
theorem CR_ls (c : CR h v) (ha : hK v.1 a = 4) (he : hR h a 1 = some e) (hn : hN h ≤ hN h') (hn1 : hN h' ≤ hN h + 1) (hk : ∀ b, b < hN h → hK h' b = hK h b ∧ hL h' b = hL h b) (hE' : ∀ k, hE h' k = hE h k)
    (hf : ∀ b, b < hN h → b ≠ a → (b ≠ e ∨ hK h e ≠ 46) → ∀ k, hI h' b k = hI h b k ∧ hJ h' b k = hJ h b k ∧ hR h' b k = hR h b k)
    (row : (e' = e ∧ l = vCp v a) ∨ (e' = hN h ∧ hN h < hN h' ∧ hK h' e' = 46 ∧ hL h' e' = l)) (hl : l ≤ 30000) (hl2 : L'.length ≤ l) (r1 : hR h' a 1 = some e') (r2 : hI h' a 2 = iI L'.length) (r3 : ∀ i, i < L'.length → hR h' e' i = L'.getD i none) :
    CR h' (vsL (vbm v (hN h') (hS h')) a L' l) := by
  have ka := c.kk ha (by decide)
  have la := c.lt (by rw [ha]; decide)
  have hvn := c.hn
  obtain ⟨g, c⟩ := c
  have ga := ((c.2.2.2.2 a la).1 (by rw [ha]; decide)).1
  obtain ⟨e0, e1, e2, e3, e4, e5, e6, e7, e8⟩ := (c.2.2.2.2 a la).2.2.1 ha
  have ee : e0 = e := Option.some.inj (e1.symm.trans he)
  subst ee
  have kv : ∀ b, hK (vsL (vbm v (hN h') (hS h')) a L' l).1 b = hK v.1 b := fun b => hK_bmp (by omega)
  refine ⟨gN g (hN h) a, CRg_up (a0 := a) c ⟨hn, hE', fun b hb => ⟨gN_ne (by omega), (hk b hb).1, (hk b hb).2, fun q => hf b hb (fun z => q (by rw [z, ga])) ?_⟩⟩ ?_ (by rw [ka]; unfold shr; omega) (by rw [ka]; decide) (by rw [ka]; decide) rfl rfl (fun k => by rw [hE']; exact c.2.2.1 k) ?_⟩
  · by_cases q2 : b = e0
    · right
      intro q3
      rcases e3 with z | z
      · exact q (by rw [q2]; exact z.2)
      · omega
    · exact Or.inl q2
  · intro b hb
    refine ⟨kv b, fun _ => rfl, fun q => ⟨rfl, fun k => ⟨rfl, rfl, rfl⟩, ?_, rfl, rfl, ?_⟩⟩
    · exact if_neg q
    · exact if_neg q
  · intro b hb q
    by_cases q2 : b = a
    · subst q2
      refine ⟨fun _ => ⟨by rw [gN_ne (by omega)]; exact ga, by rw [kv, (hk b la).1, ka, ha]⟩, fun _ y => absurd (Or.inl (by rw [kv]; exact ha)) y, fun _ => ?_, fun y => ?_, fun y => ?_, fun y => ?_⟩
      · rw [vLs_sL, if_pos rfl, vCp_sL, if_pos rfl]
        rcases row with ⟨z1, z2⟩ | ⟨z1, z2, z3, z4⟩
        · subst z1
          refine ⟨e', r1, by omega, ?_, r2, by rw [(hk _ e2).2, e5, z2], hl2, hl, r3⟩
          rw [(hk _ e2).1, gN_ne (by omega), hE', z2]
          exact e3
        · exact ⟨e', r1, by omega, Or.inl ⟨z3, by rw [z1]; exact gN_eq⟩, r2, z4, hl2, hl, r3⟩
      · rw [kv, ha] at y; omega
      · rw [kv, ha] at y; omega
      · rw [kv, ha] at y; omega
    · refine VO_0 ?_
      rw [kv]
      unfold hK
      rw [if_neg]
      show ¬ b < hN v.1
      omega
/-- room for one more -/
def grw (len c n s n' s' c' : Nat) : Prop := (len < c ∧ n' = n ∧ s' = s ∧ c' = c) ∨ (len = c ∧ n' = n + 1 ∧ s' = s + c' ∧ (c' = gLn c ∨ (c = 0 ∧ c' = 10)))
/-- a value that a list may hold -/
def okW (v : vT) : Option Nat → Prop
  | none => True
  | some b => 0 < hK v.1 b ∧ hK v.1 b < 40
theorem okW.ok (c : CR h v) (o : okW v z) : okV h z := by
  cases z with
  | none => exact trivial
  | some b =>
    obtain ⟨o1, o2⟩ := o
    have := c.kd (a := b) (by omega)
    exact ⟨by omega, by omega, c.lt (by omega)⟩
theorem hN_gR {h : am_H} {e : Nat} : hN (gR h e) = hN h + 1 := by
  unfold gR
  split <;> rfl
theorem hS_gR {h : am_H} {e : Nat} : hS (gR h e) = hS h + (if hL h e = 0 ∧ e = hE h 31 then 10 else gLn (hL h e)) := by
  unfold gR
  split <;> rfl
theorem hE_gR {h : am_H} {e k : Nat} : hE (gR h e) k = hE h k := by
  unfold gR
  split <;> rfl
theorem hL_gR {h : am_H} {e b : Nat} (hb : b ≠ hN h) : hL (gR h e) b = hL h b := by
  unfold gR
  split
  · rw [hL_newC, if_neg hb]
  · rw [hL_cpyR, hL_newC, if_neg hb]
theorem hI_gR {h : am_H} {e b k : Nat} (hb : b ≠ hN h) : hI (gR h e) b k = hI h b k := by
  unfold gR
  split
  · rw [hI_newC, if_neg hb]
  · rw [hI_cpyR, hI_newC, if_neg hb]
theorem hJ_gR {h : am_H} {e b k : Nat} (hb : b ≠ hN h) : hJ (gR h e) b k = hJ h b k := by
  unfold gR
  split
  · rw [hJ_newC, if_neg hb]
  · rw [hJ_cpyR, hJ_newC, if_neg hb]
theorem hR_gR {h : am_H} {e b k : Nat} (hb : b ≠ hN h) : hR (gR h e) b k = hR h b k := by
  unfold gR
  split
  · rw [hR_newC, if_neg hb]
  · rw [hR_cpyR, if_neg (fun q => hb q.1), hR_newC, if_neg hb]
theorem hR_gRn {h : am_H} {e k : Nat} (he : e ≠ hN h) (hk : k < hL h e) : hR (gR h e) (hN h) k = hR h e k := by
  unfold gR
  split
  · omega
  · rw [hR_cpyR, if_pos ⟨rfl, by omega, by omega⟩, hR_newC, if_neg he]
    congr 1
    omega
theorem gLn_le (c : Nat) : c < gLn c ∧ gLn c ≤ c + c / 2 + 1 := by
  unfold gLn
  split <;> omega
theorem CR_add (c : CR h v) (ha : hK v.1 a = 4) (he : hR h a 1 = some e) (hl : (vLs v a).length ≤ 15000) :
    ∃ n' s' c', CR (aR (putI h a 0 x) a e (vLs v a).length z) (vsL (vbm v n' s') a (vLs v a ++ [z]) c') ∧ grw (vLs v a).length (vCp v a) (hN v.1) (hS v.1) n' s' c' := by
  obtain ⟨e0, ⟨a1, a2, a3, a4, a5, a6, a7, a8⟩, k46, le, lc, cb, ena⟩ := c.ls ha
  have ee : e0 = e := Option.some.inj (a3.symm.trans he)
  subst ee
  have la := c.lt (a := a) (by rw [ha]; decide)
  have hvn := c.hn
  have hvs := c.hs
  have len1 : ((vLs v a ++ [z]).length : Nat) = (vLs v a).length + 1 := by simp
  have get1 : ∀ i, i < (vLs v a).length → (vLs v a ++ [z]).getD i none = (vLs v a).getD i none := fun i hi => by
    rw [List.getD_eq_getElem?_getD, List.getD_eq_getElem?_getD, List.getElem?_append_left hi]
  have get2 : (vLs v a ++ [z]).getD (vLs v a).length none = z := by
    rw [List.getD_eq_getElem?_getD, List.getElem?_append_right (Nat.le_refl _), Nat.sub_self]
    rfl
  unfold aR
  have hLp : ∀ b, hL (putI h a 0 x) b = hL h b := fun b => rfl
  by_cases p : (vLs v a).length = hL h e0
  · have gl := gLn_le (hL h e0)
    have gb : gLn (hL h e0) ≤ 30000 := by omega
    refine ⟨hN h + 1, hS h + (if hL h e0 = 0 ∧ e0 = hE h 31 then 10 else gLn (hL h e0)), if hL h e0 = 0 ∧ e0 = hE h 31 then 10 else gLn (hL h e0), ?_, ?_⟩
    · rw [if_pos (by rw [hLp]; exact p)]
      have hlN : hL (gR (putI h a 0 x) e0) (hN h) = if hL h e0 = 0 ∧ e0 = hE h 31 then 10 else gLn (hL h e0) := hL_gRn (h := putI h a 0 x)
      have hN1 : hN (gR (putI h a 0 x) e0) = hN h + 1 := hN_gR
      have hS1 : hS (gR (putI h a 0 x) e0) = hS h + (if hL h e0 = 0 ∧ e0 = hE h 31 then 10 else gLn (hL h e0)) := hS_gR
      have key := CR_ls (e' := hN h) (l := if hL h e0 = 0 ∧ e0 = hE h 31 then 10 else gLn (hL h e0)) (L' := vLs v a ++ [z]) (h' := putI (putR (putR (gR (putI h a 0 x) e0) a 1 (some (hN (putI h a 0 x)))) (hN (putI h a 0 x)) (vLs v a).length z) a 2 (iI ((vLs v a).length + 1))) c ha he
        (by show hN h ≤ hN (gR (putI h a 0 x) e0); omega) (by show hN (gR (putI h a 0 x) e0) ≤ _; omega) ?_ ?_ ?_ (Or.inr ⟨rfl, by show hN h < hN (gR (putI h a 0 x) e0); omega, ?_, ?_⟩) (by split <;> omega) (by rw [len1]; split <;> omega) ?_ ?_ ?_
      · rw [show hN (putI (putR (putR (gR (putI h a 0 x) e0) a 1 (some (hN (putI h a 0 x)))) (hN (putI h a 0 x)) (vLs v a).length z) a 2 (iI ((vLs v a).length + 1))) = hN h + 1 from hN1] at key
        rw [show hS (putI (putR (putR (gR (putI h a 0 x) e0) a 1 (some (hN (putI h a 0 x)))) (hN (putI h a 0 x)) (vLs v a).length z) a 2 (iI ((vLs v a).length + 1))) = _ from hS1] at key
        exact key
      · intro b hb
        exact ⟨hK_gR (h := putI h a 0 x) (by show b ≠ hN h; omega), hL_gR (h := putI h a 0 x) (by show b ≠ hN h; omega)⟩
      · intro k
        exact hE_gR (h := putI h a 0 x)
      · intro b hb q1 q2 k
        have nb : b ≠ hN (putI h a 0 x) := by show b ≠ hN h; omega
        rw [hI_putI, if_neg (am_ne q1), hI_putR, hI_putR, hI_gR nb, hI_putI, if_neg (am_ne q1), hJ_putI, hJ_putR, hJ_putR, hJ_gR nb, hR_putI, hR_putR, if_neg (am_ne nb), hR_putR, if_neg (am_ne q1), hR_gR nb]
        exact ⟨rfl, rfl, rfl⟩
      · exact hK_gRn (h := putI h a 0 x)
      · exact hlN
      · rw [hR_putI, hR_putR, if_neg (fun q => by have := q.1; show False; change a = hN h at this; omega), hR_putR, if_pos ⟨rfl, rfl⟩]
        rfl
      · rw [hI_putI, if_pos ⟨rfl, rfl⟩, len1]
        rfl
      · intro i hi
        rw [len1] at hi
        rw [hR_putI, hR_putR]
        by_cases q : i = (vLs v a).length
        · rw [if_pos ⟨rfl, q⟩, q, get2]
        · rw [if_neg (fun w => q w.2), hR_putR, if_neg (fun w => by have := w.1; omega)]
          have hi2 : i < (vLs v a).length := by omega
          rw [get1 i hi2, ← a8 i hi2]
          exact hR_gRn (h := putI h a 0 x) (by show e0 ≠ hN h; omega) (by show i < hL h e0; omega)
    · right
      refine ⟨by omega, by omega, by omega, ?_⟩
      by_cases q : hL h e0 = 0 ∧ e0 = hE h 31
      · rw [if_pos q]
        exact Or.inr ⟨by omega, rfl⟩
      · rw [if_neg q, lc]
        exact Or.inl rfl
  · refine ⟨hN h, hS h, vCp v a, ?_, Or.inl ⟨by omega, by omega, by omega, rfl⟩⟩
    rw [if_neg (by rw [hLp]; exact p)]
    have k46' : hK h e0 = 46 := by
      rcases k46 with q | q
      · exact q
      · omega
    refine CR_ls (e' := e0) (l := vCp v a) (L' := vLs v a ++ [z]) (h' := putI (putR (putI h a 0 x) e0 (vLs v a).length z) a 2 (iI ((vLs v a).length + 1))) c ha he (Nat.le_refl _) (by show hN h ≤ hN h + 1; omega) (fun b hb => ⟨rfl, rfl⟩) (fun k => rfl) ?_ (Or.inl ⟨rfl, rfl⟩) cb (by omega) (by rw [hR_putI, hR_putR, if_neg (fun w => ena w.1.symm)]; exact a3) ?_ ?_
    · intro b hb q1 q2 k
      rw [hI_putI, if_neg (am_ne q1), hI_putR, hI_putI, if_neg (am_ne q1), hR_putI, hR_putR, if_neg (fun w => by rcases q2 with q2 | q2; exact q2 w.1; exact q2 k46')]
      exact ⟨rfl, rfl, rfl⟩
    · rw [hI_putI, if_pos ⟨rfl, rfl⟩, len1]
      rfl
    · intro i hi
      rw [len1] at hi
      rw [hR_putI, hR_putR]
      by_cases q : i = (vLs v a).length
      · rw [if_pos ⟨rfl, q⟩, q, get2]
      · rw [if_neg (fun w => q w.2), get1 i (by omega)]
        exact a8 i (by omega)
variable {r : Nat} {Q : am_O → am_H → Prop}
theorem v_size (c : CR h v) (ha : hK v.1 a = 4) : Cl r 34 [vR (some a)] h Q ↔ Q (Sum.inl (some (vI (iI (vLs v a).length)))) h := by
  obtain ⟨e, A, _⟩ := c.ls ha
  exact al_size A
theorem v_get {k : Int} (c : CR h v) (ha : hK v.1 a = 4) (h1 : 0 ≤ k) (h2 : k < (vLs v a).length) : Cl r 43 [vR (some a), vI (iI k)] h Q ↔ Q (Sum.inl (some (vR ((vLs v a).getD k.toNat none)))) h := by
  obtain ⟨e, A, _⟩ := c.ls ha
  exact al_get A h1 h2
theorem v_isEmpty (c : CR h v) (ha : hK v.1 a = 4) : Cl r 282 [vR (some a)] h Q ↔ Q (Sum.inl (some (vI (iI (if (vLs v a).length = 0 then 1 else 0))))) h := by
  obtain ⟨e, A, B⟩ := c.ls ha
  exact al_isEmpty A.1 A.2.1 (by have := A.2.2.2.2.2.1; omega)
theorem v_add (c : CR h v) (ha : hK v.1 a = 4) (o : okW v z) (hl : (vLs v a).length ≤ 15000)
    (q : ∀ h' n' s' c', CR h' (vsL (vbm v n' s') a (vLs v a ++ [z]) c') → grw (vLs v a).length (vCp v a) (hN v.1) (hS v.1) n' s' c' → Q (Sum.inl (some (vI (iI 1)))) h') : Cl r 119 [vR (some a), vR z] h Q := by
  obtain ⟨e, ⟨a1, a2, a3, a4, a5, a6, a7, a8⟩, k46, le, lc, cb, ena⟩ := c.ls ha
  have la := c.lt (a := a) (by rw [ha]; decide)
  rw [al_add a1 la a3 a2 (by rcases k46 with z | z; exact Or.inl z; exact Or.inr ⟨z.1, z.2.1⟩) le (by omega) a6 (o.ok c)]
  obtain ⟨n', s', c', w1, w2⟩ := CR_add (x := hI h a 0 + iI 1) (z := z) c ha a3 hl
  exact q _ n' s' c' w1 w2
end VR
