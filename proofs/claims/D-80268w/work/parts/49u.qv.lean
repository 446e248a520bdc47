/-! PURE: ranges of the rows, kept by reading *-/
def tLow (f : Nat) : Int := if f = 3 ∨ f = 9 ∨ f = 15 ∨ f = 19 ∨ f = 30 ∨ f = 33 ∨ f = 37 ∨ f = 40 then 0 else -1
def tCap (f : Nat) : Int := if f = 3 then 16 else if f = 9 then 12 else if f = 19 then 120 else if f = 15 ∨ f = 30 ∨ f = 33 ∨ f = 37 then 4 else 100000
def QV (U : tSt) : Prop := ∀ f j, tLow f ≤ U f j ∧ U f j < 9223372036854775808 ∧ (tJ f = false → U f j ≤ tCap f)
section QVS
variable {w : Int} {S U : tSt} {f : Nat} {j x : Int}
theorem tLow_l (f : Nat) : -1 ≤ tLow f := by unfold tLow; split <;> omega
theorem tCap_l (f : Nat) : tCap f ≤ 100000 := by unfold tCap; split; omega; split; omega; split; omega; split <;> omega
theorem QV.qu (q : QV U) : QU U := fun f j => ⟨Int.le_trans (tLow_l f) (q f j).1, (q f j).2.1, fun h => Int.le_trans ((q f j).2.2 h) (tCap_l f)⟩
theorem QV_up (q : QV U) (h1 : tLow f ≤ x) (h2 : x < 9223372036854775808) (h3 : tJ f = false → x ≤ tCap f) : QV (up U f j x) := by
  intro g i
  rw [up_eq]
  split
  · rename_i z
    rw [z.1]
    exact ⟨h1, h2, h3⟩
  · exact q g i
theorem QV_x (q : QV U) (e1 : tLow f = -1) (e2 : tCap f = 100000) (h1 : -1 ≤ x) (h2 : x ≤ 100000) : QV (up U f j x) := QV_up q (by rw [e1]; exact h1) (by omega) (fun _ => by rw [e2]; exact h2)
theorem QV_w (q : QV U) (e1 : tLow f = -1) (e2 : tJ f = true) (h1 : 0 ≤ x) (h2 : x < 9223372036854775808) : QV (up U f j x) := QV_up q (by rw [e1]; omega) h2 (fun z => by rw [e2] at z; cases z)
theorem QV_c {c : Int} (q : QV U) (e1 : tLow f = 0) (e2 : tCap f = c) (h1 : 0 ≤ x) (h2 : x ≤ c) : QV (up U f j x) := QV_up q (by rw [e1]; omega) (by have := tCap_l f; omega) (fun _ => by rw [e2]; exact h2)
theorem QV_b {c : Int} (q : QV U) (e1 : tLow f = 0) (e2 : tCap f = c) (e3 : tJ f = false) (j : Int) : 0 ≤ U f j ∧ U f j ≤ c := by
  have := q f j
  rw [e1, e2] at this
  exact ⟨this.1, this.2.2 e3⟩
theorem SI_v (h : SI S) : (0 ≤ S 53 0 ∧ S 53 0 < 9223372036854775808) ∧ (0 ≤ S 54 0 ∧ S 54 0 ≤ 2000) ∧ (0 ≤ S 49 0 ∧ S 49 0 ≤ 2000) := ⟨h.2.2.2.2.2.1, h.2.2.2.2.2.2.1, h.2.1⟩
theorem QV_kind (hs : SI S) (ht : TK S) (q : QV U) : QV (tKind w S U).2 := by
  unfold tKind
  have k1 := Tks_adv hs ht
  have k2 := Tks_name k1.1 k1.2.1
  have v2 := SI_v k2.1
  have k3 := Tks_adv k2.1 k2.2.1
  have k4 := Tks_name k3.1 k3.2.1
  have v4 := SI_v k4.1
  have b := QV_b q (f := 3) (c := 16) rfl rfl rfl w
  split
  · exact q
  · split
    · have q1 : QV (up (up U 4 (w * 16 + U 3 w) (tName (tAdv S) 53 0)) 5 (w * 16 + U 3 w) (tName (tAdv S) 54 0)) := QV_x (QV_w q rfl rfl (by omega) (by omega)) rfl rfl (by omega) (by omega)
      unfold tKind2
      split
      · split
        · have q2 := QV_x (f := 6) (j := w * 16 + U 3 w) (x := tName (tAdv (tName (tAdv S))) 49 0) (QV_x (f := 8) (j := w * 16 + U 3 w) (x := tName (tAdv (tName (tAdv S))) 54 0) (QV_w (f := 7) (j := w * 16 + U 3 w) (x := tName (tAdv (tName (tAdv S))) 53 0) q1 rfl rfl (by omega) (by omega)) rfl rfl (by omega) (by omega)) rfl rfl (by omega) (by omega)
          unfold tKind3
          split
          · refine QV_c q2 (c := 16) rfl rfl ?_ ?_
            · simp only [up_eq, true_and, false_and, and_true, and_false, and_self, if_true, if_false, eq_self, Nat.reduceEqDiff, reduceIte]; omega
            · simp only [up_eq, true_and, false_and, and_true, and_false, and_self, if_true, if_false, eq_self, Nat.reduceEqDiff, reduceIte]; omega
          · exact q2
        · exact q1
      · exact q1
    · exact q
theorem QV_opn {what own num s : Int} (q : QV U) (hs : SI S) (h0 : 0 ≤ w ∧ w ≤ 1) (hb : U 40 w ≤ 1000) (hw : -1 ≤ what ∧ what ≤ 100) (ho : -1 ≤ own ∧ own ≤ 10000) (hn : -1 ≤ num ∧ num ≤ 100) (e1 : tLow f = -1) (e2 : tCap f = 100000) : QV (tOpn w what own num f s S U).2 := by
  have v := SI_v hs
  have b := (q 40 w).1
  rw [show tLow 40 = 0 from rfl] at b
  show QV (up (tOU w what own num S U) f s (tOR w S U))
  have q1 : QV (tOU w what own num S U) := by
    unfold tOU
    split
    · exact QV_x (QV_x (QV_x (QV_x (QV_x (QV_x (QV_c (c := 100000) q rfl rfl (by omega) (by omega)) rfl rfl (by omega) (by omega)) rfl rfl (by omega) (by omega)) rfl rfl (by omega) (by omega)) rfl rfl (by omega) (by omega)) rfl rfl (by omega) (by omega)) rfl rfl (by omega) (by omega)
    · exact q
  refine QV_x q1 e1 e2 ?_ ?_
  · unfold tOR tOB
    split <;> omega
  · unfold tOR tOB
    split <;> omega
theorem QV_thr {x : Int} : ∀ (d : Nat) (S U : tSt), SI S → TK S → QV U → QV (tThr x d S U).2.2 := by
  intro d
  induction d with
  | zero => intro S U _ _ q; exact q
  | succ d ih =>
    intro S U hs ht q
    have k1 := Tks_adv hs ht
    have k2 := Tks_name k1.1 k1.2.1
    have v2 := SI_v k2.1
    have b := QV_b q (f := 15) (c := 4) rfl rfl rfl x
    unfold tThr
    split
    · exact q
    · split
      · have q1 := QV_c (f := 15) (j := x) (x := U 15 x + 1) (c := 4) (QV_x (f := 17) (j := 4 * x + U 15 x) (x := tName (tAdv S) 54 0) (QV_w (f := 16) (j := 4 * x + U 15 x) (x := tName (tAdv S) 53 0) q rfl rfl (by omega) (by omega)) rfl rfl (by omega) (by omega)) rfl rfl (by omega) (by omega)
        split
        · exact ih _ _ k2.1 k2.2.1 q1
        · exact q1
      · exact q
theorem QV_nam {s u : Int} : ∀ (d : Nat) (S U : tSt), SI S → TK S → QV U → QV (tNam s u d S U).2.2 := by
  intro d
  induction d with
  | zero => intro S U _ _ q; exact q
  | succ d ih =>
    intro S U hs ht q
    have k1 := Tks_adv hs ht
    have k2 := Tks_name k1.1 k1.2.1
    have v2 := SI_v k2.1
    have b := QV_b q (f := 30) (c := 4) rfl rfl rfl s
    unfold tNam
    split
    · exact q
    · split
      · have q1 := QV_c (f := 30) (j := s) (x := U 30 s + 1) (c := 4) (QV_x (f := 32) (j := 4 * s + U 30 s) (x := tName (tAdv S) 54 0) (QV_w (f := 31) (j := 4 * s + U 30 s) (x := tName (tAdv S) 53 0) q rfl rfl (by omega) (by omega)) rfl rfl (by omega) (by omega)) rfl rfl (by omega) (by omega)
        split
        · exact ih _ _ k2.1 k2.2.1 q1
        · exact q1
      · exact q
theorem QV_cau {c : Int} : ∀ (d : Nat) (S U : tSt), SI S → TK S → QV U → QV (tCau c d S U).2.2 := by
  intro d
  induction d with
  | zero => intro S U _ _ q; exact q
  | succ d ih =>
    intro S U hs ht q
    have k1 := Tks_adv hs ht
    have k2 := Tks_name k1.1 k1.2.1
    have v2 := SI_v k2.1
    have b := QV_b q (f := 37) (c := 4) rfl rfl rfl c
    unfold tCau
    split
    · exact q
    · split
      · have q1 := QV_c (f := 37) (j := c) (x := U 37 c + 1) (c := 4) (QV_x (f := 39) (j := 4 * c + U 37 c) (x := tName (tAdv S) 54 0) (QV_w (f := 38) (j := 4 * c + U 37 c) (x := tName (tAdv S) 53 0) q rfl rfl (by omega) (by omega)) rfl rfl (by omega) (by omega)) rfl rfl (by omega) (by omega)
        split
        · exact ih _ _ k2.1 k2.2.1 q1
        · exact q1
      · exact q
end QVS
