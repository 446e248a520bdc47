/-! THE VIEW, 5: lists: one put in at a place, clearing, new lists *-/
/-- the heap behind the room was made -/
def aG (h : am_H) (a e n : Nat) : am_H × Nat := if n = hL h e then (putR (gR h e) a 1 (some (hN h)), hN h) else (h, e)
def aI (h : am_H) (a e n i : Nat) (x : Option Nat) : am_H :=
  putI (putR (cpyR (aG h a e n).1 (aG h a e n).2 i (aG h a e n).2 (i + 1) (n - i)) (aG h a e n).2 i x) a 2 (iI (n + 1))
section VS
variable {g : Nat → Nat} {h h' : am_H} {v : vT} {a b k j c n s l m e e' i : Nat} {x : Int32} {y : Int64} {z : Option Nat} {L L' : List (Option Nat)} {T t : List Int32}
theorem ins_get {α : Type} {d : α} {L : List α} {x : α} {i j : Nat} (hi : i ≤ L.length) : (L.take i ++ x :: L.drop i).getD j d = if j < i then L.getD j d else if j = i then x else L.getD (j - 1) d := by
  have lt : (L.take i).length = i := by rw [List.length_take]; omega
  simp only [List.getD_eq_getElem?_getD]
  by_cases q1 : j < i
  · rw [if_pos q1, List.getElem?_append_left (by omega), List.getElem?_take, if_pos q1]
  · rw [if_neg q1, List.getElem?_append_right (by omega), lt]
    by_cases q2 : j = i
    · rw [if_pos q2, q2, Nat.sub_self]; rfl
    · rw [if_neg q2, show j - i = (j - 1 - i) + 1 by omega, List.getElem?_cons_succ, List.getElem?_drop]
      congr 2
      omega
theorem CR_ins (c : CR h v) (ha : hK v.1 a = 4) (he : hR h a 1 = some e) (hl : (vLs v a).length ≤ 15000) (hi : i ≤ (vLs v a).length) :
    ∃ n' s' c', CR (aI (putI h a 0 x) a e (vLs v a).length i z) (vsL (vbm v n' s') a ((vLs v a).take i ++ z :: (vLs v a).drop i) c') ∧ grw (vLs v a).length (vCp v a) (hN v.1) (hS v.1) n' s' c' := by
  obtain ⟨e0, ⟨a1, a2, a3, a4, a5, a6, a7, a8⟩, k46, le, lc, cb, ena⟩ := c.ls ha
  have ee : e0 = e := Option.some.inj (a3.symm.trans he)
  subst ee
  have la := c.lt (a := a) (by rw [ha]; decide)
  have hvn := c.hn
  have hvs := c.hs
  have len1 : ((vLs v a).take i ++ z :: (vLs v a).drop i).length = (vLs v a).length + 1 := by
    rw [List.length_append, List.length_cons, List.length_take, List.length_drop]
    omega
  unfold aI aG
  have hLp : ∀ b, hL (putI h a 0 x) b = hL h b := fun b => rfl
  by_cases p : (vLs v a).length = hL h e0
  · have gl := gLn_le (hL h e0)
    have gb : gLn (hL h e0) ≤ 30000 := by omega
    refine ⟨hN h + 1, hS h + (if hL h e0 = 0 ∧ e0 = hE h 31 then 10 else gLn (hL h e0)), if hL h e0 = 0 ∧ e0 = hE h 31 then 10 else gLn (hL h e0), ?_, ?_⟩
    · rw [if_pos (show (vLs v a).length = hL (putI h a 0 x) e0 from p)]
      have hlN : hL (gR (putI h a 0 x) e0) (hN h) = if hL h e0 = 0 ∧ e0 = hE h 31 then 10 else gLn (hL h e0) := hL_gRn (h := putI h a 0 x)
      have hN1 : hN (gR (putI h a 0 x) e0) = hN h + 1 := hN_gR
      have hS1 : hS (gR (putI h a 0 x) e0) = hS h + (if hL h e0 = 0 ∧ e0 = hE h 31 then 10 else gLn (hL h e0)) := hS_gR
      have key := CR_ls (e' := hN h) (l := if hL h e0 = 0 ∧ e0 = hE h 31 then 10 else gLn (hL h e0)) (L' := (vLs v a).take i ++ z :: (vLs v a).drop i) (h' := putI (putR (cpyR (putR (gR (putI h a 0 x) e0) a 1 (some (hN h))) (hN h) i (hN h) (i + 1) ((vLs v a).length - i)) (hN h) i z) a 2 (iI ((vLs v a).length + 1))) c ha he
        (by show hN h ≤ hN (gR (putI h a 0 x) e0); omega) (by show hN (gR (putI h a 0 x) e0) ≤ _; omega) ?_ ?_ ?_ (Or.inr ⟨rfl, by show hN h < hN (gR (putI h a 0 x) e0); omega, ?_, ?_⟩) (by split <;> omega) (by rw [len1]; split <;> omega) ?_ ?_ ?_
      · rw [show hN (putI (putR (cpyR (putR (gR (putI h a 0 x) e0) a 1 (some (hN h))) (hN h) i (hN h) (i + 1) ((vLs v a).length - i)) (hN h) i z) a 2 (iI ((vLs v a).length + 1))) = hN h + 1 from hN1] at key
        rw [show hS (putI (putR (cpyR (putR (gR (putI h a 0 x) e0) a 1 (some (hN h))) (hN h) i (hN h) (i + 1) ((vLs v a).length - i)) (hN h) i z) a 2 (iI ((vLs v a).length + 1))) = _ from hS1] at key
        exact key
      · intro b hb
        exact ⟨hK_gR (h := putI h a 0 x) (by show b ≠ hN h; omega), hL_gR (h := putI h a 0 x) (by show b ≠ hN h; omega)⟩
      · intro k
        exact hE_gR (h := putI h a 0 x)
      · intro b hb q1 q2 k
        have nb : b ≠ hN (putI h a 0 x) := by show b ≠ hN h; omega
        have nb' : b ≠ hN h := nb
        rw [hI_putI, if_neg (am_ne q1), hI_putR, hI_cpyR, hI_putR, hI_gR nb, hI_putI, if_neg (am_ne q1), hJ_putI, hJ_putR, hJ_cpyR, hJ_putR, hJ_gR nb, hR_putI, hR_putR, if_neg (am_ne nb'), hR_cpyR, if_neg (fun w => nb' w.1), hR_putR, if_neg (am_ne q1), hR_gR nb]
        exact ⟨rfl, rfl, rfl⟩
      · exact hK_gRn (h := putI h a 0 x)
      · exact hlN
      · rw [hR_putI, hR_putR, if_neg (fun q => by have := q.1; omega), hR_cpyR, if_neg (fun q => by have := q.1; omega), hR_putR, if_pos ⟨rfl, rfl⟩]
      · rw [hI_putI, if_pos ⟨rfl, rfl⟩, len1]
        rfl
      · intro j hj
        rw [len1] at hj
        have old : ∀ j, j < (vLs v a).length → hR (putR (gR (putI h a 0 x) e0) a 1 (some (hN h))) (hN h) j = (vLs v a).getD j none := fun j hj => by
          rw [hR_putR, if_neg (fun w => by have := w.1; omega), ← a8 j hj]
          exact hR_gRn (h := putI h a 0 x) (by show e0 ≠ hN h; omega) (by show j < hL h e0; omega)
        rw [ins_get hi, hR_putI, hR_putR, hR_cpyR]
        by_cases q1 : j < i
        · rw [if_neg (fun w => by have := w.2; omega), if_neg (fun w => by have := w.2; omega), if_pos q1, old j (by omega)]
        · rw [if_neg q1]
          by_cases q2 : j = i
          · rw [if_pos ⟨rfl, q2⟩, if_pos q2]
          · rw [if_neg (fun w => q2 w.2), if_pos ⟨rfl, by omega, by omega⟩, if_neg q2, show i + (j - (i + 1)) = j - 1 by omega, old (j - 1) (by omega)]
    · right
      refine ⟨by omega, by omega, by omega, ?_⟩
      by_cases q : hL h e0 = 0 ∧ e0 = hE h 31
      · rw [if_pos q]
        exact Or.inr ⟨by omega, rfl⟩
      · rw [if_neg q, lc]
        exact Or.inl rfl
  · refine ⟨hN h, hS h, vCp v a, ?_, Or.inl ⟨by omega, by omega, by omega, rfl⟩⟩
    rw [if_neg (show ¬ (vLs v a).length = hL (putI h a 0 x) e0 from p)]
    have k46' : hK h e0 = 46 := by
      rcases k46 with q | q
      · exact q
      · omega
    refine CR_ls (e' := e0) (l := vCp v a) (L' := (vLs v a).take i ++ z :: (vLs v a).drop i) (h' := putI (putR (cpyR (putI h a 0 x) e0 i e0 (i + 1) ((vLs v a).length - i)) e0 i z) a 2 (iI ((vLs v a).length + 1))) c ha he (Nat.le_refl _) (by show hN h ≤ hN h + 1; omega) (fun b hb => ⟨rfl, rfl⟩) (fun k => rfl) ?_ (Or.inl ⟨rfl, rfl⟩) cb (by omega) (by rw [hR_putI, hR_putR, if_neg (fun w => ena w.1.symm), hR_cpyR, if_neg (fun w => ena w.1.symm)]; exact a3) ?_ ?_
    · intro b hb q1 q2 k
      have q3 : b ≠ e0 := fun w => by
        rcases q2 with q2 | q2
        · exact q2 w
        · exact q2 k46'
      rw [hI_putI, if_neg (am_ne q1), hI_putR, hI_cpyR, hI_putI, if_neg (am_ne q1), hR_putI, hR_putR, if_neg (am_ne q3), hR_cpyR, if_neg (fun w => q3 w.1)]
      exact ⟨rfl, rfl, rfl⟩
    · rw [hI_putI, if_pos ⟨rfl, rfl⟩, len1]
      rfl
    · intro j hj
      rw [len1] at hj
      have old : ∀ j, j < (vLs v a).length → hR (putI h a 0 x) e0 j = (vLs v a).getD j none := fun j hj => a8 j hj
      rw [ins_get hi, hR_putI, hR_putR, hR_cpyR]
      by_cases q1 : j < i
      · rw [if_neg (fun w => by have := w.2; omega), if_neg (fun w => by have := w.2; omega), if_pos q1, old j (by omega)]
      · rw [if_neg q1]
        by_cases q2 : j = i
        · rw [if_pos ⟨rfl, q2⟩, if_pos q2]
        · rw [if_neg (fun w => q2 w.2), if_pos ⟨rfl, by omega, by omega⟩, if_neg q2, show i + (j - (i + 1)) = j - 1 by omega, old (j - 1) (by omega)]
/-- a new list: its room, its row -/
theorem CR_nL (c : CR h v) : CR (putR (putI (newC h 4 3) (hN h) 0 (iI 0)) (hN h) 1 (some (hE h 31))) (vsL (vbm (vnw v 4 3) (hN v.1 + 1) (hS v.1 + 3)) (hN v.1) [] 0) := by
  have hn := c.hn
  have hs := c.hs
  have he := fun k => c.he (k := k)
  obtain ⟨g, c⟩ := c
  have kn : hK h (hN h) = 0 := by unfold hK; rw [if_neg (by show ¬ hN h < hN h; omega)]
  have kv : ∀ b, hK (vsL (vbm (vnw v 4 3) (hN v.1 + 1) (hS v.1 + 3)) (hN v.1) [] 0).1 b = if b = hN v.1 then 4 else hK v.1 b := fun b => by
    rw [vsL_1, vbm_1, hK_bmp (by rw [vnw_1, hN_newC]; omega), vnw_1, hK_newC]
  have n31 : hE h 31 < hN h := hK_lt c.2.2.2.1.1.1 (by decide)
  refine ⟨gN g (hN h) (hN h), CRg_up (a0 := hN h) c ⟨by show hN h ≤ hN h + 1; omega, fun k => rfl, fun b hb => ⟨gN_ne (by omega), ?_, ?_, fun _ k => ⟨?_, ?_, ?_⟩⟩⟩ (fun b hb => ?_) (by rw [kn]; unfold shr; omega) (by rw [kn]; decide) (by rw [kn]; decide) (by show hN v.1 + 1 = hN h + 1; omega) (by show hS v.1 + 3 = hS h + 3; omega) (fun k => (he k).symm) ?_⟩
  · rw [hK_putR, hK_putI, hK_newC, if_neg (by omega)]
  · rw [hL_putR, hL_putI, hL_newC, if_neg (by omega)]
  · rw [hI_putR, hI_putI, if_neg (fun w => by have := w.1; omega), hI_newC, if_neg (by omega)]
  · rw [hJ_putR, hJ_putI, hJ_newC, if_neg (by omega)]
  · rw [hR_putR, if_neg (fun w => by have := w.1; omega), hR_putI, hR_newC, if_neg (by omega)]
  · refine ⟨by rw [kv, if_neg (by omega)], fun _ => rfl, fun q => ⟨?_, fun k => ⟨?_, ?_, ?_⟩, ?_, rfl, rfl, ?_⟩⟩
    · rw [vsL_1, vbm_1, hL_bmp, vnw_1, hL_newC, if_neg (by omega)]
    · rw [vsL_1, vbm_1, hI_bmp, vnw_1, hI_newC, if_neg (by omega)]
    · rw [vsL_1, vbm_1, hJ_bmp, vnw_1, hJ_newC, if_neg (by omega)]
    · rw [vsL_1, vbm_1, hR_bmp, vnw_1, hR_newC, if_neg (by omega)]
    · rw [vLs_sL, if_neg (by omega)]; rfl
    · rw [vCp_sL, if_neg (by omega)]; rfl
  · intro b hb q
    have q' : b = hN h := by
      have : hN (putR (putI (newC h 4 3) (hN h) 0 (iI 0)) (hN h) 1 (some (hE h 31))) = hN h + 1 := rfl
      omega
    subst q'
    have k4 : hK (vsL (vbm (vnw v 4 3) (hN v.1 + 1) (hS v.1 + 3)) (hN v.1) [] 0).1 (hN h) = 4 := by rw [kv, if_pos hn]
    have kk4 : hK (putR (putI (newC h 4 3) (hN h) 0 (iI 0)) (hN h) 1 (some (hE h 31))) (hN h) = 4 := by rw [hK_putR, hK_putI, hK_newC, if_pos rfl]
    refine ⟨fun _ => ⟨gN_eq, by rw [k4, kk4]⟩, fun _ y => absurd (Or.inl k4) y, fun _ => ?_, fun y => by omega, fun y => by omega, fun y => by omega⟩
    rw [vLs_sL, if_pos hn, vCp_sL, if_pos hn]
    refine ⟨hE h 31, by rw [hR_putR, if_pos ⟨rfl, rfl⟩], by show hE h 31 < hN h + 1; omega, Or.inr ⟨?_, ?_, rfl, rfl⟩, ?_, ?_, Nat.le_refl _, by decide, fun i hi => absurd hi (Nat.not_lt_zero _)⟩
    · rw [hK_putR, hK_putI, hK_newC, if_neg (by omega)]
      exact c.2.2.2.1.1.1
    · rw [gN_ne (by omega)]
      exact c.2.2.2.1.1.2.2
    · rw [hI_putR, hI_putI, if_neg (fun w => by have := w.2; omega), hI_newC, if_pos rfl]
      rfl
    · rw [hL_putR, hL_putI, hL_newC, if_neg (by omega)]
      exact c.2.2.2.1.1.2.1
theorem CR_nL2 (c : CR h v) (n2 : n ≤ 30000) : CR (putR (newC (putI (newC h 4 3) (hN h) 0 (iI 0)) 46 n) (hN h) 1 (some (hN h + 1))) (vsL (vbm (vnw v 4 3) (hN v.1 + 2) (hS v.1 + 3 + n)) (hN v.1) [] n) := by
  have hn := c.hn
  have hs := c.hs
  have he := fun k => c.he (k := k)
  obtain ⟨g, c⟩ := c
  have kn : hK h (hN h) = 0 := by unfold hK; rw [if_neg (by show ¬ hN h < hN h; omega)]
  have kv : ∀ b, hK (vsL (vbm (vnw v 4 3) (hN v.1 + 2) (hS v.1 + 3 + n)) (hN v.1) [] n).1 b = if b = hN v.1 then 4 else hK v.1 b := fun b => by
    rw [vsL_1, vbm_1, hK_bmp (by rw [vnw_1, hN_newC]; omega), vnw_1, hK_newC]
  have n1 : hN (putI (newC h 4 3) (hN h) 0 (iI 0)) = hN h + 1 := rfl
  refine ⟨fun b => if b = hN h + 1 then hN h else gN g (hN h) (hN h) b, CRg_up (a0 := hN h) c ⟨by show hN h ≤ hN h + 2; omega, fun k => rfl, fun b hb => ⟨(if_neg (by omega)).trans (gN_ne (by omega)), ?_, ?_, fun _ k => ⟨?_, ?_, ?_⟩⟩⟩ (fun b hb => ?_) (by rw [kn]; unfold shr; omega) (by rw [kn]; decide) (by rw [kn]; decide) (by show hN v.1 + 2 = hN h + 2; omega) (by show hS v.1 + 3 + n = hS h + 3 + n; omega) (fun k => (he k).symm) ?_⟩
  · rw [hK_putR, hK_newC, n1, if_neg (by omega), hK_putI, hK_newC, if_neg (by omega)]
  · rw [hL_putR, hL_newC, n1, if_neg (by omega), hL_putI, hL_newC, if_neg (by omega)]
  · rw [hI_putR, hI_newC, n1, if_neg (by omega), hI_putI, if_neg (fun w => by have := w.1; omega), hI_newC, if_neg (by omega)]
  · rw [hJ_putR, hJ_newC, n1, if_neg (by omega), hJ_putI, hJ_newC, if_neg (by omega)]
  · rw [hR_putR, if_neg (fun w => by have := w.1; omega), hR_newC, n1, if_neg (by omega), hR_putI, hR_newC, if_neg (by omega)]
  · refine ⟨by rw [kv, if_neg (by omega)], fun _ => rfl, fun q => ⟨?_, fun k => ⟨?_, ?_, ?_⟩, ?_, rfl, rfl, ?_⟩⟩
    · rw [vsL_1, vbm_1, hL_bmp, vnw_1, hL_newC, if_neg (by omega)]
    · rw [vsL_1, vbm_1, hI_bmp, vnw_1, hI_newC, if_neg (by omega)]
    · rw [vsL_1, vbm_1, hJ_bmp, vnw_1, hJ_newC, if_neg (by omega)]
    · rw [vsL_1, vbm_1, hR_bmp, vnw_1, hR_newC, if_neg (by omega)]
    · rw [vLs_sL, if_neg (by omega)]; rfl
    · rw [vCp_sL, if_neg (by omega)]; rfl
  · intro b hb q
    have hb' : b < hN h + 2 := hb
    by_cases q' : b = hN h
    · subst q'
      have k4 : hK (vsL (vbm (vnw v 4 3) (hN v.1 + 2) (hS v.1 + 3 + n)) (hN v.1) [] n).1 (hN h) = 4 := by rw [kv, if_pos hn]
      have kk4 : hK (putR (newC (putI (newC h 4 3) (hN h) 0 (iI 0)) 46 n) (hN h) 1 (some (hN h + 1))) (hN h) = 4 := by rw [hK_putR, hK_newC, n1, if_neg (by omega), hK_putI, hK_newC, if_pos rfl]
      refine ⟨fun _ => ⟨(if_neg (by omega)).trans gN_eq, by rw [k4, kk4]⟩, fun _ y => absurd (Or.inl k4) y, fun _ => ?_, fun y => by omega, fun y => by omega, fun y => by omega⟩
      rw [vLs_sL, if_pos hn, vCp_sL, if_pos hn]
      refine ⟨hN h + 1, by rw [hR_putR, if_pos ⟨rfl, rfl⟩], by show hN h + 1 < hN h + 2; omega, Or.inl ⟨?_, if_pos rfl⟩, ?_, ?_, Nat.zero_le _, n2, fun i hi => absurd hi (Nat.not_lt_zero _)⟩
      · rw [hK_putR, hK_newC, n1, if_pos rfl]
      · rw [hI_putR, hI_newC, n1, if_neg (by omega), hI_putI, if_neg (fun w => by have := w.2; omega), hI_newC, if_pos rfl]
        rfl
      · rw [hL_putR, hL_newC, n1, if_pos rfl]
    · refine VO_0 ?_
      rw [kv, if_neg (by omega)]
      unfold hK
      rw [if_neg]
      show ¬ b < hN v.1
      omega
end VS
