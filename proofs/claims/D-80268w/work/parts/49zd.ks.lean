/-! PURE: what reading leaves alone of the scalars *-/
def kF (f : Nat) : Bool := f != 47 && f != 49 && f != 50 && f != 51 && f != 52 && f != 53 && f != 54 && f != 55 && f != 56
def KS (S T : tSt) : Prop := ∀ f, kF f = true → T f = S f
section KSS
variable {w : Int} {S T U : tSt} {x : Int}
theorem kF_ne {f g : Nat} (hf : kF f = true) (hg : kF g = false) : f ≠ g := fun z => by rw [z, hg] at hf; cases hf
theorem KS.rf : KS S S := fun _ _ => rfl
theorem KS_up {g : Nat} {j y : Int} (h : KS S T) (hg : kF g = false) : KS S (up T g j y) := fun f hf => by rw [up_n (kF_ne hf hg)]; exact h f hf
theorem KS_adv (h : KS S T) : KS S (tAdv T) := fun f hf => (tAdv_o f (kF_ne hf rfl) (kF_ne hf rfl) (kF_ne hf rfl) (kF_ne hf rfl)).trans (h f hf)
theorem KS_fail (h : KS S T) : KS S (tFail T) := by unfold tFail; exact KS_up h rfl
theorem KS_name (h : KS S T) : KS S (tName T) := by
  unfold tName
  split
  · exact KS_adv (KS_up (KS_up h rfl) rfl)
  · exact KS_fail h
theorem KS_take (h : KS S T) : KS S (tTake T x) := by
  unfold tTake
  split
  · exact KS_adv h
  · exact KS_fail h
theorem KS_thr : ∀ (d : Nat) (T U : tSt), KS S T → KS S (tThr x d T U).2.1 := by
  intro d
  induction d with
  | zero => intro T U h; exact h
  | succ d ih =>
    intro T U h
    unfold tThr
    split
    · exact KS_fail (KS_adv h)
    · split
      · split
        · exact ih _ _ (KS_name (KS_adv h))
        · exact KS_name (KS_adv h)
      · exact KS_fail (KS_adv h)
theorem KS_nam {s u : Int} : ∀ (d : Nat) (T U : tSt), KS S T → KS S (tNam s u d T U).2.1 := by
  intro d
  induction d with
  | zero => intro T U h; exact h
  | succ d ih =>
    intro T U h
    unfold tNam
    split
    · exact KS_fail (KS_adv h)
    · split
      · split
        · exact ih _ _ (KS_name (KS_adv h))
        · exact KS_take (KS_name (KS_adv h))
      · exact KS_fail (KS_adv h)
theorem KS_cau {c : Int} : ∀ (d : Nat) (T U : tSt), KS S T → KS S (tCau c d T U).2.1 := by
  intro d
  induction d with
  | zero => intro T U h; exact h
  | succ d ih =>
    intro T U h
    unfold tCau
    split
    · exact KS_fail (KS_adv h)
    · split
      · split
        · exact ih _ _ (KS_name (KS_adv h))
        · exact KS_name (KS_adv h)
      · exact KS_fail (KS_adv h)
theorem KS_opn {what own num s : Int} {f : Nat} (h : KS S T) : KS S (tOpn w what own num f s T U).1 := by
  show KS S (tOS w T U)
  unfold tOS
  split
  · exact KS_adv (KS_up (KS_up h rfl) rfl)
  · exact KS_fail h
theorem KS_step : KS S (tStep w S U).1 := by
  unfold tStep
  split
  · split
    · unfold tKind
      split
      · exact KS_fail KS.rf
      · split
        · unfold tKind2
          split
          · split
            · unfold tKind3
              split
              · exact KS_adv (KS_name (KS_adv (KS_name (KS_adv KS.rf))))
              · exact KS_fail (KS_name (KS_adv (KS_name (KS_adv KS.rf))))
            · exact KS_fail (KS_adv (KS_name (KS_adv KS.rf)))
          · exact KS_fail (KS_name (KS_adv KS.rf))
        · exact KS_fail (KS_adv KS.rf)
    · split
      · have w4 : ∀ T U x, KS S T → KS S (tWay4 w x T U).1 := fun T U x h => by
          unfold tWay4
          split
          · exact KS_adv h
          · exact KS_opn h
        have w3 : ∀ T U x, KS S T → KS S (tWay3 w x T U).1 := fun T U x h => by
          unfold tWay3
          split
          · split
            · exact w4 _ _ _ (KS_thr 5 _ _ h)
            · exact KS_thr 5 _ _ h
          · exact w4 _ _ _ h
        have w2 : ∀ T U x, KS S T → KS S (tWay2 w x T U).1 := fun T U x h => by
          unfold tWay2
          split
          · exact w3 _ _ _ (KS_adv h)
          · exact w3 _ _ _ h
        have w1 : ∀ T U x, KS S T → KS S (tWay1 w x T U).1 := fun T U x h => by
          unfold tWay1
          split
          · split
            · exact w2 _ _ _ (KS_name (KS_adv h))
            · exact KS_fail (KS_adv h)
          · exact w2 _ _ _ h
        unfold tWay
        split
        · exact KS_fail KS.rf
        · split
          · exact w1 _ _ _ (KS_name (KS_adv KS.rf))
          · exact KS_fail (KS_adv KS.rf)
      · exact KS_fail KS.rf
  · split
    · have bh : ∀ T s b, KS S T → KS S (tBehind w s b T U).1 := fun T s b h => by
        unfold tBehind
        split
        · unfold tCatch
          split
          · exact KS_fail h
          · split
            · split
              · unfold tCatch2
                split
                · unfold tCatch3
                  split
                  · exact KS_opn (KS_adv (KS_name (KS_cau 5 _ _ (KS_adv h))))
                  · exact KS_fail (KS_name (KS_cau 5 _ _ (KS_adv h)))
                · exact KS_fail (KS_cau 5 _ _ (KS_adv h))
              · exact KS_cau 5 _ _ (KS_adv h)
            · exact KS_fail (KS_adv h)
        · split
          · exact KS_opn (KS_adv h)
          · split
            · exact KS_fail h
            · exact h
      have h0 : KS S (tAdv (up S 55 0 (S 55 0 - 1))) := KS_adv (KS_up KS.rf rfl)
      unfold tClose tShut
      split
      · exact KS_take h0
      · split
        · split
          · exact KS_opn (KS_adv h0)
          · exact h0
        · split
          · split
            · exact KS_nam 5 _ _ h0
            · exact KS_take h0
          · split
            · exact bh _ _ _ h0
            · split
              · exact bh _ _ _ h0
              · exact h0
    · unfold tStmt
      split
      · split
        · exact KS_opn KS.rf
        · have a : KS S (tAdv S) := KS_adv KS.rf
          unfold tStmt2
          split
          · exact KS_take a
          · split
            · split
              · unfold tStmt3
                split
                · exact KS_opn (KS_name a)
                · exact KS_take (KS_name a)
              · exact KS_fail a
            · split
              · exact KS_opn a
              · split
                · exact KS_opn a
                · split
                  · split
                    · exact KS_opn (KS_nam 5 _ _ a)
                    · exact KS_nam 5 _ _ a
                  · exact KS_opn a
      · exact KS_fail KS.rf
theorem KS.tr {V : tSt} (h1 : KS S T) (h2 : KS T V) : KS S V := fun f hf => (h2 f hf).trans (h1 f hf)
theorem KS_run : ∀ (d : Nat) (S U : tSt), KS S (tRun w d S U).1 := by
  intro d
  induction d with
  | zero => intro S U; exact KS.rf
  | succ d ih =>
    intro S U
    unfold tRun
    split
    · exact KS_step.tr (ih _ _)
    · exact KS.rf
end KSS
