/-! THE TWIN: behind a read without failure all questions may be asked *-/
section QCE
variable {m : Nat} {h : am_H} {w : Int} {S U U1 : tSt}
theorem PK_clear : PK w S (tClear w U) := by
  unfold PK tClear
  simp only [up_eq, true_and, false_and, and_true, and_false, and_self, if_true, if_false, eq_self, Nat.reduceEqDiff, reduceIte]
  exact ⟨by omega, fun k a b => by omega, fun k q a b c => by omega⟩
theorem PR_clear : PR w (tClear w U) := by
  have e9 : tClear w U 9 w = 0 := by unfold tClear; simp only [up_eq, true_and, false_and, and_true, and_false, and_self, if_true, if_false, eq_self, Nat.reduceEqDiff, reduceIte]
  have e19 : tClear w U 19 w = 0 := by unfold tClear; simp only [up_eq, true_and, false_and, and_true, and_false, and_self, if_true, if_false, eq_self, Nat.reduceEqDiff, reduceIte]
  have e40 : tClear w U 40 w = 0 := by unfold tClear; simp only [up_eq, true_and, false_and, and_true, and_false, and_self, if_true, if_false, eq_self, Nat.reduceEqDiff, reduceIte]
  unfold PR PQ As Ab
  rw [e9, e19, e40]
  exact ⟨⟨fun s hs => by omega, fun b hb => by omega, fun k a b => by omega⟩, by omega, fun z => by omega⟩
theorem tw_QC (sh : TS h m) (hS : SL S) (w0 : 0 ≤ w) (w1 : w ≤ 1) (q1 : QV U1) (e : (tRun (1 - w) 2001 (tBgn S w) (tClear (1 - w) U1)).1 52 0 = -1) :
    QC (tBase h m w S U) m (1 - w) (tRun (1 - w) 2001 (tBgn S w) (tClear (1 - w) U1)).1 (tRun (1 - w) 2001 (tBgn S w) (tClear (1 - w) U1)).2 := by
  have pi := PI_bg2 (U1 := U1) hS w0 w1
  have dn := tRun_done 2001 _ _ pi (fun _ => by have := pi.1.2.1; omega)
  have qv := QV_run (w := 1 - w) (by omega) 2001 _ _ pi (QV_clear q1)
  have pr := PR_run (w := 1 - w) (by omega) 2001 _ _ pi (QV_clear q1) PR_clear
  have pk := PK_run 2001 _ _ pi PK_clear e
  have bd := tw_bound dn.2
  exact ⟨sh, qv.qu, dn.2.2.2.1, by omega, PQ_QW pr.1 qv pk ⟨pr.2.1, by omega⟩⟩
end QCE
