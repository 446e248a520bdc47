/-! COMPONENT, 80: what a statement is at its head *-/
section STN
variable {a k n : Nat} {v : vT} {w s b : Int} {S E U : tSt}
theorem vFl_1 : hR (vFl v a k n).1 a k = some (hN v.1) ∧ hK (vFl v a k n).1 (hN v.1) = 4 ∧ vLs (vFl v a k n) (hN v.1) = [] := ⟨by unfold vFl; rw [vpR_1, hR_putR, if_pos ⟨rfl, rfl⟩], vLn_k, vLn_l⟩
theorem vFl_x : Fw (fun b j => b = a ∧ j = k) v (vFl v a k n) := (vLn_f.mono (fun _ _ y => y.elim)).pR (Or.inr ⟨rfl, rfl⟩)
theorem nw_f {c m j : Nat} : hR (vnw v c m).1 (hN v.1) j = none ∧ hI (vnw v c m).1 (hN v.1) j = 0 := ⟨by rw [vnw_1, hR_newC, if_pos rfl], by rw [vnw_1, hI_newC, if_pos rfl]⟩
theorem pI_s {u : vT} {x : Int32} : hI (vpI u a k x).1 a k = x := by rw [vpI_1, hI_putI, if_pos ⟨rfl, rfl⟩]
theorem mdO_30 {x : Int} (hx : x = 0 ∨ x = 3 ∨ x = 8) : hK (mdO v x).1 (hN v.1) = 30 ∧ hI (mdO v x).1 (hN v.1) 5 = iI x ∧ hR (mdO v x).1 (hN v.1) 6 = none := by
  rcases hx with e | e | e <;> rw [e]
  · exact ⟨nw_k, (pI_s (u := vnw v 30 7) (a := hN v.1) (k := 5) (x := 0)).trans rfl, (nw_f (v := v) (c := 30) (m := 7) (j := 6)).1⟩
  · exact ⟨nw_k, (pI_s (u := vnw v 30 7) (a := hN v.1) (k := 5) (x := 3)).trans rfl, (nw_f (v := v) (c := 30) (m := 7) (j := 6)).1⟩
  · exact ⟨nw_k, (pI_s (u := vnw v 30 7) (a := hN v.1) (k := 5) (x := 8)).trans rfl, (nw_f (v := v) (c := 30) (m := 7) (j := 6)).1⟩
theorem mdO_34 {x : Int} (hx : x = 5 ∨ x = 6) : hK (mdO v x).1 (hN v.1) = 34 ∧ hI (mdO v x).1 (hN v.1) 5 = bI (x = 5) ∧ hR (mdO v x).1 (hN v.1) 7 = some (hN v.1 + 1) ∧ hK (mdO v x).1 (hN v.1 + 1) = 4 ∧ vLs (mdO v x) (hN v.1 + 1) = [] := by
  have z := vFl_1 (v := vnw v 34 8) (a := hN v.1) (k := 7) (n := 1)
  have kk : hK (vFl (vnw v 34 8) (hN v.1) 7 1).1 (hN v.1) = 34 := vFl_k nw_k (by decide)
  rcases hx with e | e <;> rw [e]
  · exact ⟨kk, (pI_s (u := vFl (vnw v 34 8) (hN v.1) 7 1) (a := hN v.1) (k := 5) (x := 1)).trans rfl, z.1, z.2.1, z.2.2⟩
  · exact ⟨kk, (pI_s (u := vFl (vnw v 34 8) (hN v.1) 7 1) (a := hN v.1) (k := 5) (x := 0)).trans rfl, z.1, z.2.1, z.2.2⟩
theorem mdO_35 : BK (mdO v 7) (hN v.1) (hN v.1 + 1) none [] := by
  have z := vFl_1 (v := vnw v 35 7) (a := hN v.1) (k := 6) (n := 1)
  have kk : hK (vFl (vnw v 35 7) (hN v.1) 6 1).1 (hN v.1) = 35 := vFl_k nw_k (by decide)
  refine ⟨kk, ?_, z.1, z.2.1, z.2.2⟩
  show hR (vFl (vnw v 35 7) (hN v.1) 6 1).1 (hN v.1) 5 = none
  rw [(vFl_x.ff (v := vnw v 35 7) (k := 5) (hK_lt nw_k (by decide)) (fun y => absurd y.2 (by decide))).2.2]
  exact nw_f.1
theorem mdO_36 : (hK (mdO v 9).1 (hN v.1) = 36 ∧ hR (mdO v 9).1 (hN v.1) 5 = some (hN v.1 + 1) ∧ hR (mdO v 9).1 (hN v.1) 6 = some (hN v.1 + 3) ∧ hR (mdO v 9).1 (hN v.1) 7 = some (hN v.1 + 5) ∧ hR (mdO v 9).1 (hN v.1) 9 = some (hN v.1 + 7) ∧ hR (mdO v 9).1 (hN v.1) 10 = none) ∧ (hK (mdO v 9).1 (hN v.1 + 1) = 4 ∧ hK (mdO v 9).1 (hN v.1 + 3) = 4 ∧ hK (mdO v 9).1 (hN v.1 + 5) = 4 ∧ hK (mdO v 9).1 (hN v.1 + 7) = 4) ∧ (vLs (mdO v 9) (hN v.1 + 1) = [] ∧ vLs (mdO v 9) (hN v.1 + 3) = [] ∧ vLs (mdO v 9) (hN v.1 + 5) = [] ∧ vLs (mdO v 9) (hN v.1 + 7) = []) := by
  have e : mdO v 9 = vFl (vFl (vFl (vFl (vnw v 36 12) (hN v.1) 5 1) (hN v.1) 6 1) (hN v.1) 7 1) (hN v.1) 9 2 := rfl
  rw [e]
  have k1 : hK (vnw v 36 12).1 (hN v.1) = 36 := nw_k
  have r1 : ∀ j, hR (vnw v 36 12).1 (hN v.1) j = none := fun j => nw_f.1
  have n1 : hN (vnw v 36 12).1 = hN v.1 + 1 := rfl
  generalize vnw v 36 12 = v1 at *
  have n2 : hN (vFl v1 (hN v.1) 5 1).1 = hN v1.1 + 2 := rfl
  have z2 := vFl_1 (v := v1) (a := hN v.1) (k := 5) (n := 1)
  have f2 := vFl_x (v := v1) (a := hN v.1) (k := 5) (n := 1)
  generalize vFl v1 (hN v.1) 5 1 = v2 at *
  have n3 : hN (vFl v2 (hN v.1) 6 1).1 = hN v2.1 + 2 := rfl
  have z3 := vFl_1 (v := v2) (a := hN v.1) (k := 6) (n := 1)
  have f3 := vFl_x (v := v2) (a := hN v.1) (k := 6) (n := 1)
  generalize vFl v2 (hN v.1) 6 1 = v3 at *
  have n4 : hN (vFl v3 (hN v.1) 7 1).1 = hN v3.1 + 2 := rfl
  have z4 := vFl_1 (v := v3) (a := hN v.1) (k := 7) (n := 1)
  have f4 := vFl_x (v := v3) (a := hN v.1) (k := 7) (n := 1)
  generalize vFl v3 (hN v.1) 7 1 = v4 at *
  have z5 := vFl_1 (v := v4) (a := hN v.1) (k := 9) (n := 2)
  have f5 := vFl_x (v := v4) (a := hN v.1) (k := 9) (n := 2)
  generalize vFl v4 (hN v.1) 9 2 = v5 at *
  rw [n1] at z2
  rw [show hN v2.1 = hN v.1 + 3 by omega] at z3
  rw [show hN v3.1 = hN v.1 + 5 by omega] at z4
  rw [show hN v4.1 = hN v.1 + 7 by omega] at z5
  have g5 := fun j (hj : j ≠ 9) => (f5.ff (a := hN v.1) (k := j) (by omega) (fun y => hj y.2)).2.2
  have g4 := fun j (hj : j ≠ 7) => (f4.ff (a := hN v.1) (k := j) (by omega) (fun y => hj y.2)).2.2
  have g3 := fun j (hj : j ≠ 6) => (f3.ff (a := hN v.1) (k := j) (by omega) (fun y => hj y.2)).2.2
  have g2 := fun j (hj : j ≠ 5) => (f2.ff (a := hN v.1) (k := j) (by omega) (fun y => hj y.2)).2.2
  have L5 : ∀ b, b < hN v4.1 → vLs v5 b = vLs v4 b := fun b hb => (f5.cc hb (fun y => absurd y.2 (by decide))).1
  have L4 : ∀ b, b < hN v3.1 → vLs v4 b = vLs v3 b := fun b hb => (f4.cc hb (fun y => absurd y.2 (by decide))).1
  have L3 : ∀ b, b < hN v2.1 → vLs v3 b = vLs v2 b := fun b hb => (f3.cc hb (fun y => absurd y.2 (by decide))).1
  refine ⟨⟨f5.kk (f4.kk (f3.kk (f2.kk k1 (by decide)) (by decide)) (by decide)) (by decide), ?_, ?_, ?_, z5.1, ?_⟩, ⟨f5.kk (f4.kk (f3.kk z2.2.1 (by decide)) (by decide)) (by decide), f5.kk (f4.kk z3.2.1 (by decide)) (by decide), f5.kk z4.2.1 (by decide), z5.2.1⟩, ⟨?_, ?_, ?_, z5.2.2⟩⟩
  · rw [g5 5 (by decide), g4 5 (by decide), g3 5 (by decide)]; exact z2.1
  · rw [g5 6 (by decide), g4 6 (by decide)]; exact z3.1
  · rw [g5 7 (by decide)]; exact z4.1
  · rw [g5 10 (by decide), g4 10 (by decide), g3 10 (by decide), g2 10 (by decide)]; exact r1 10
  · rw [L5 _ (by omega), L4 _ (by omega), L3 _ (by omega)]; exact z2.2.2
  · rw [L5 _ (by omega), L4 _ (by omega)]; exact z3.2.2
  · rw [L5 _ (by omega)]; exact z4.2.2
theorem tE0_w : tE0 w s b S U 27 s = -1 ∧ tE0 w s b S U 28 s = -1 ∧ tE0 w s b S U 29 s = -1 := by
  unfold tE0 tEnter
  refine ⟨?_, ?_, ?_⟩
  all_goals
    rw [up_n (by decide), tLink_o (by decide) (by decide) (by decide)]
    simp only [up_eq, true_and, false_and, and_true, and_false, and_self, if_true, if_false, eq_self, Nat.reduceEqDiff, reduceIte]
/-- what a step does at the word of a statement -/
theorem sw_0 : tStmt2 w s wDo S E = (tTake S 59, up (up E 20 s 0) 20 s 0) ∧ tStmt2 w s wReturn S E = (tTake S 59, up (up E 20 s 0) 20 s 8) ∧ tStmt2 w s wBreak S E = (tTake S 59, up (up E 20 s 0) 20 s 7) := by
  rw [up_up, up_up, up_up]
  exact ⟨rfl, rfl, rfl⟩
theorem sw_1 : tStmt2 w s wIf S E = tOpn w 2 s 0 27 s S (up (up E 20 s 0) 20 s 4) ∧ tStmt2 w s wRun S E = tOpn w 8 s 0 27 s S (up (up E 20 s 0) 20 s 10) ∧ tStmt2 w s wWhile S E = tOpn w 4 s 0 27 s S (up (up E 20 s 0) 20 s 5) ∧ tStmt2 w s wLoop S E = tOpn w 4 s 0 27 s S (up (up E 20 s 0) 20 s 6) ∧ tStmt2 w s wTry S E = tTry w s S (up (up E 20 s 0) 20 s 9) := by
  rw [up_up, up_up, up_up, up_up, up_up]
  exact ⟨rfl, rfl, rfl, rfl, rfl⟩
theorem sw_2 {x k : Int} (hx : (x = wThrow ∧ k = 2) ∨ (x = wSet ∧ k = 3)) : ∃ V, tStmt2 w s x S E = (tTs S, V) ∧ (tIsN S = true → V = tNr s k (S 50 0) (S 49 0) (up E 20 s 0)) := by
  have e : tStmt2 w s x S E = if tIsN S = true then (tTake (tName S) 59, up (up (up E 20 s k) 25 s (tName S 53 0)) 26 s (tName S 54 0)) else (tFail S, up E 20 s k) := by
    rcases hx with ⟨h1, h2⟩ | ⟨h1, h2⟩ <;> rw [h1, h2] <;> rfl
  by_cases n : tIsN S = true
  · obtain ⟨f53, f54, _⟩ := tName_g n
    rw [if_pos n, f53, f54] at e
    refine ⟨_, by rw [e]; unfold tTs; rw [if_pos n], fun _ => ?_⟩
    unfold tNr
    rw [up_up]
  · rw [if_neg n] at e
    exact ⟨_, by rw [e]; unfold tTs; rw [if_neg n], fun y => absurd y n⟩
theorem sw_3 : (tIsN S = true → tStmt2 w s wCall S E = if tName S 51 0 = 123 then tOpn w 1 s 0 27 s (tName S) (tNr s 1 (S 50 0) (S 49 0) (up E 20 s 0)) else (tTake (tName S) 59, tNr s 1 (S 50 0) (S 49 0) (up E 20 s 0))) ∧ (¬ tIsN S = true → ∃ V, tStmt2 w s wCall S E = (tFail S, V)) := by
  have e : tStmt2 w s wCall S E = if tIsN S = true then tStmt3 w s wCall (tName S) (up (up (up E 20 s 1) 25 s (tName S 53 0)) 26 s (tName S 54 0)) else (tFail S, up E 20 s 1) := rfl
  refine ⟨fun n => ?_, fun n => ?_⟩
  · obtain ⟨f53, f54, _⟩ := tName_g n
    rw [if_pos n, f53, f54] at e
    rw [e]
    unfold tStmt3 tNr
    rw [up_up]
    by_cases y : tName S 51 0 = 123
    · rw [if_pos ⟨rfl, y⟩, if_pos y]
    · rw [if_neg (fun q => y q.2), if_neg y]
  · rw [if_neg n] at e
    exact ⟨_, e⟩
end STN
