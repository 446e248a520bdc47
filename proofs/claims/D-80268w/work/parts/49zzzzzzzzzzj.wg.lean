/-! THE TWIN: a walk goes on *-/
/-- a state from which a walk takes one more turn -/
def WT (w : Int) (U S : tSt) : Prop := WR S ∧ (1 ≤ S 69 0 ∧ S 68 0 = 0 ∧ -1 ≤ S 67 0 ∧ S 67 0 < 100000) ∧
  (S 66 0 = 0 → S 71 (S 69 0 - 1) ≠ -1 → As w U (S 71 (S 69 0 - 1)) ∧ (U 20 (S 71 (S 69 0 - 1)) = 4 ∨ U 20 (S 71 (S 69 0 - 1)) = 5 ∨ U 20 (S 71 (S 69 0 - 1)) = 6 ∨ U 20 (S 71 (S 69 0 - 1)) = 9 ∨ U 20 (S 71 (S 69 0 - 1)) = 11 → Ab w U (U 27 (S 71 (S 69 0 - 1))))) ∧
  (-1 ≤ S 71 (S 69 0 - 1) ∧ S 71 (S 69 0 - 1) < 100000) ∧
  (¬ (S 66 0 = 0 ∧ S 71 (S 69 0 - 1) ≠ -1) → Ab w U (S 70 (S 69 0 - 1)) ∧ (U 41 (S 70 (S 69 0 - 1)) = 1 → mO U w (U 25 (U 42 (S 70 (S 69 0 - 1)))) ≠ -1) ∧ (U 41 (S 70 (S 69 0 - 1)) = 4 → Ab w U (U 27 (U 42 (S 70 (S 69 0 - 1))))) ∧
      (U 41 (S 70 (S 69 0 - 1)) = 5 → tCl U w (U 42 (S 70 (S 69 0 - 1))) (U 30 (U 42 (S 70 (S 69 0 - 1)))).toNat (up S 69 0 (S 69 0 - 1)) 66 0 = 1 → (0 ≤ tCl U w (U 42 (S 70 (S 69 0 - 1))) (U 30 (U 42 (S 70 (S 69 0 - 1)))).toNat (up S 69 0 (S 69 0 - 1)) 67 0 ∧ tCl U w (U 42 (S 70 (S 69 0 - 1))) (U 30 (U 42 (S 70 (S 69 0 - 1)))).toNat (up S 69 0 (S 69 0 - 1)) 67 0 < U 3 w) ∧ ∀ k, 0 ≤ k → k < U 33 (U 42 (S 70 (S 69 0 - 1))) → Ab w U (U 34 (4 * U 42 (S 70 (S 69 0 - 1)) + k))))
def WGn (w : Int) (U : tSt) : Nat → tSt → tSt → Prop
  | 0, S, S' => S = S'
  | n + 1, S, S' => WT w U S ∧ WGn w U n (tWst U w S) S'
/-- a walk goes from S to S' -/
def WGo (w : Int) (U S S' : tSt) : Prop := ∃ n, WGn w U n S S'
section WGS
variable {r m : Nat} {h : am_H} {Q : am_O → am_H → Prop} {w s b n : Int} {S S' S'' U : tSt} {f : Nat} {l1 l2 l3 l4 l5 : Option am_V}
theorem WGo.rf : WGo w U S S := ⟨0, rfl⟩
theorem WGn_tr : ∀ (n k : Nat) (S S' S'' : tSt), WGn w U n S S' → WGn w U k S' S'' → WGn w U (n + k) S S''
  | 0, k, S, S', S'', a, b => by rw [Nat.zero_add, show S = S' from a]; exact b
  | n + 1, k, S, S', S'', a, b => by rw [show n + 1 + k = n + k + 1 by omega]; exact ⟨a.1, WGn_tr n k _ _ _ a.2 b⟩
theorem WGo.tr (a : WGo w U S S') (b : WGo w U S' S'') : WGo w U S S'' := by
  obtain ⟨n, a⟩ := a
  obtain ⟨k, b⟩ := b
  exact ⟨n + k, WGn_tr n k _ _ _ a b⟩
theorem WGo.one (a : WT w U S) : WGo w U S (tWst U w S) := ⟨1, a, rfl⟩
/-- the fields that no walk touches -/
def nWk (f : Nat) : Prop := f < 57 ∨ (57 < f ∧ f < 64) ∨ 74 < f
theorem tSv_o (hf : f ≠ 74) {c : Int} : ∀ (d : Nat) (S : tSt), tSv U w c d S f = S f
  | 0, _ => rfl
  | d + 1, S => by
    unfold tSv
    rw [tSv_o hf d]
    split
    · rfl
    · rw [up_n hf]
theorem tPush_o (hf : f < 69 ∨ 71 < f) : tPush U b S f = S f := by
  unfold tPush
  rw [up_n (by omega), up_n (by omega), up_n (by omega)]
theorem tStpS_o (hf : f ≠ 65) (h2 : f ≠ 68) : tStpS S f = S f := by
  unfold tStpS
  rw [up_n hf, up_n h2]
theorem tDrwS_o (hf : f ≠ 64) : tDrwS S f = S f := by
  unfold tDrwS
  rw [up_n hf]
theorem tThrw_o (hf : f ≠ 66) (h2 : f ≠ 67) {k : Int} : tThrw k S f = S f := by
  unfold tThrw
  rw [up_n h2, up_n hf]
theorem tFin_o (hf : nWk f ∨ f = 65) : tFin U s S f = S f := by
  unfold nWk at hf
  unfold tFin
  split
  · rfl
  · rw [tPush_o (by omega), up_n (by omega), up_n (by omega), up_n (by omega)]
theorem tBeg_o (hf : nWk f ∨ f = 65) : tBeg U w s S f = S f := by
  unfold nWk at hf
  have d1 : ∀ k (S : tSt), tDrT U w k S f = S f := fun k S => tDrT_o f (by omega) (by omega) (by omega)
  have d2 : ∀ b (S : tSt), tPush U b S f = S f := fun b S => tPush_o (by omega)
  have d3 : ∀ (S : tSt), tDrwS S f = S f := fun S => tDrwS_o (by omega)
  have d4 : ∀ k (S : tSt), tThrw k S f = S f := fun k S => tThrw_o (by omega) (by omega)
  have d5 : ∀ c d (S : tSt), tSv U w c d S f = S f := fun c d S => tSv_o (by omega) d S
  unfold tBeg
  split
  · split
    · rfl
    · split
      · split
        · rw [d2, d3]
        · rw [d1, d3]
      · rw [d1]
  · split
    · split
      · split
        · rw [up_n (by omega)]
        · rw [d4, up_n (by omega)]
      · split
        · rw [up_n (by omega)]
        · rw [d4, up_n (by omega)]
    · split
      · split
        · rw [up_n (by omega)]
        · rw [d5, up_n (by omega)]
      · split
        · split
          · rw [d2, d3]
          · split
            · rw [d3]
            · rw [d2, d3]
        · split
          · split
            · rw [d2, d3]
            · rw [d3]
          · split
            · rw [up_n (by omega), up_n (by omega)]
            · split
              · rw [up_n (by omega)]
              · split
                · rw [d2]
                · rfl
theorem tCl_o (hf : f ≠ 64) (h6 : f ≠ 66) (h7 : f ≠ 67) : ∀ (d : Nat) (S : tSt), tCl U w s d S f = S f
  | 0, _ => rfl
  | d + 1, S => by
    unfold tCl
    rw [tCl_o hf h6 h7 d]
    split
    · rfl
    · exact tDrT_o f h6 h7 hf
theorem tLv_o (hf : nWk f) : tLv U w b n S f = S f := by
  have hg := hf
  unfold nWk at hf
  have d1 : ∀ k (S : tSt), tDrT U w k S f = S f := fun k S => tDrT_o f (by omega) (by omega) (by omega)
  have d2 : ∀ b (S : tSt), tPush U b S f = S f := fun b S => tPush_o (by omega)
  have d3 : ∀ (S : tSt), tDrwS S f = S f := fun S => tDrwS_o (by omega)
  have d4 : ∀ (S : tSt), tStpS S f = S f := fun S => tStpS_o (by omega) (by omega)
  have d6 : ∀ s (S : tSt), tFin U s S f = S f := fun s S => tFin_o (Or.inl hg)
  unfold tLv
  split
  · unfold tLv1
    split
    · rw [d1, up_n (by omega)]
    · rfl
  · split
    · unfold tLv4
      split
      · rw [up_n (by omega)]
      · split
        · split
          · rw [d4]
          · split
            · rw [d2, d4]
            · split
              · rw [d2, d3, d4]
              · rw [d3, d4]
        · rfl
    · split
      · unfold tLv5
        split
        · split
          · rw [d6, tCl_o (by omega) (by omega) (by omega)]
          · rw [d2, up_n (by omega), up_n (by omega), tCl_o (by omega) (by omega) (by omega)]
        · rw [d6, tCl_o (by omega) (by omega) (by omega)]
      · split
        · rw [d6]
        · split
          · split
            · rw [up_n (by omega), up_n (by omega)]
            · rfl
          · rfl
theorem tWst_o (hf : nWk f) : tWst U w S f = S f := by
  have hg := hf
  unfold nWk at hf
  unfold tWst
  split
  · split
    · rw [tStpS_o (by omega) (by omega), up_n (by omega)]
    · rw [tBeg_o (Or.inl hg), tStpS_o (by omega) (by omega), up_n (by omega)]
  · rw [tLv_o hg, up_n (by omega)]
theorem tStpS_65 : S 65 0 ≤ tStpS S 65 0 := by
  unfold tStpS
  rw [up_s]
  split <;> omega
theorem tLv_65 : S 65 0 ≤ tLv U w b n S 65 0 := by
  have d1 : ∀ k (S : tSt), tDrT U w k S 65 = S 65 := fun k S => tDrT_o 65 (by omega) (by omega) (by omega)
  have d2 : ∀ b (S : tSt), tPush U b S 65 = S 65 := fun b S => tPush_o (by omega)
  have d3 : ∀ (S : tSt), tDrwS S 65 = S 65 := fun S => tDrwS_o (by omega)
  have d6 : ∀ s (S : tSt), tFin U s S 65 = S 65 := fun s S => tFin_o (Or.inr rfl)
  have d7 : ∀ s d (S : tSt), tCl U w s d S 65 = S 65 := fun s d S => tCl_o (by omega) (by omega) (by omega) d S
  unfold tLv
  split
  · unfold tLv1
    split
    · rw [d1, up_n (by omega)]; exact Int.le_refl _
    · exact Int.le_refl _
  · split
    · unfold tLv4
      split
      · rw [up_n (by omega)]; exact Int.le_refl _
      · split
        · split
          · exact tStpS_65
          · split
            · rw [d2]; exact tStpS_65
            · split
              · rw [d2, d3]; exact tStpS_65
              · rw [d3]; exact tStpS_65
        · exact Int.le_refl _
    · split
      · unfold tLv5
        split
        · split
          · rw [d6, d7]; exact Int.le_refl _
          · rw [d2, up_n (by omega), up_n (by omega), d7]; exact Int.le_refl _
        · rw [d6, d7]; exact Int.le_refl _
      · split
        · rw [d6]; exact Int.le_refl _
        · split
          · split
            · rw [up_n (by omega), up_n (by omega)]; exact Int.le_refl _
            · exact Int.le_refl _
          · exact Int.le_refl _
theorem tWst_65 : S 65 0 ≤ tWst U w S 65 0 := by
  unfold tWst
  split
  · split
    · have := tStpS_65 (S := up S 71 (S 69 0 - 1) (U 24 (S 71 (S 69 0 - 1))))
      rw [up_n (by decide)] at this
      exact this
    · rw [tBeg_o (Or.inr rfl)]
      have := tStpS_65 (S := up S 71 (S 69 0 - 1) (U 24 (S 71 (S 69 0 - 1))))
      rw [up_n (by decide)] at this
      exact this
  · have := tLv_65 (U := U) (w := w) (b := S 70 (S 69 0 - 1)) (n := S 69 0 - 1) (S := up S 69 0 (S 69 0 - 1))
    rw [up_n (by decide)] at this
    exact this
theorem WGn_65 : ∀ (n : Nat) (S S' : tSt), WGn w U n S S' → S 65 0 ≤ S' 65 0
  | 0, S, S', a => by rw [show S = S' from a]; exact Int.le_refl _
  | n + 1, S, S', a => Int.le_trans tWst_65 (WGn_65 n _ _ a.2)
/-- steps are not taken back -/
theorem WGo.mm (a : WGo w U S S') : S 65 0 ≤ S' 65 0 := by
  obtain ⟨n, a⟩ := a
  exact WGn_65 n _ _ a
theorem WGn_o (hf : nWk f) : ∀ (n : Nat) (S S' : tSt), WGn w U n S S' → S' f = S f
  | 0, S, S', a => by rw [show S = S' from a]
  | n + 1, S, S', a => by rw [WGn_o hf n _ _ a.2, tWst_o hf]
theorem WGo.o (a : WGo w U S S') (hf : nWk f) : S' f = S f := by
  obtain ⟨n, a⟩ := a
  exact WGn_o hf n _ _ a
theorem tw_gon : ∀ (n : Nat) (S S' : tSt) (l4 l5 : Option am_V), QC h m w S U → WGn w U n S S' → (∀ l4 l5, Rn r 24 81 [some (vR (some m)), l1, l2, l3, l4, l5] [] (tput h m w S' U) Q) → Rn r 24 81 [some (vR (some m)), l1, l2, l3, l4, l5] [] (tput h m w S U) Q
  | 0, S, S', l4, l5, c, a, q => by rw [show S = S' from a]; exact q l4 l5
  | n + 1, S, S', l4, l5, c, a, q => by
    obtain ⟨⟨hr, ⟨a1, a2, a3⟩, a4, a5, a6⟩, b⟩ := a
    refine tw_turn c hr a1 a2 a3 a4 a5 a6 (fun l4 l5 => ?_)
    exact tw_gon n _ _ l4 l5 (QC_of c (congrFun (tWst_o (f := 2) (Or.inl (by decide))) 0)) b q
/-- the twin walks from S to S' -/
theorem tw_go (c : QC h m w S U) (a : WGo w U S S') (q : ∀ l4 l5, Rn r 24 81 [some (vR (some m)), l1, l2, l3, l4, l5] [] (tput h m w S' U) Q) : Rn r 24 81 [some (vR (some m)), l1, l2, l3, l4, l5] [] (tput h m w S U) Q := by
  obtain ⟨n, a⟩ := a
  exact tw_gon n _ _ l4 l5 c a q
/-- a block is left -/
theorem WG_leave (hr : WR S) (hn : S 69 0 = n + 1) (n0 : 0 ≤ n) (h68 : S 68 0 = 0) (h67 : -1 ≤ S 67 0 ∧ S 67 0 < 100000) (hb : S 70 n = b) (hB : Ab w U b) (h66 : S 66 0 ≠ 0 ∨ S 71 n = -1) (h71 : -1 ≤ S 71 n ∧ S 71 n < 100000)
    (h1 : U 41 b = 1 → mO U w (U 25 (U 42 b)) ≠ -1) (h4 : U 41 b = 4 → Ab w U (U 27 (U 42 b)))
    (h5 : U 41 b = 5 → tCl U w (U 42 b) (U 30 (U 42 b)).toNat (up S 69 0 n) 66 0 = 1 → (0 ≤ tCl U w (U 42 b) (U 30 (U 42 b)).toNat (up S 69 0 n) 67 0 ∧ tCl U w (U 42 b) (U 30 (U 42 b)).toNat (up S 69 0 n) 67 0 < U 3 w) ∧ ∀ k, 0 ≤ k → k < U 33 (U 42 b) → Ab w U (U 34 (4 * U 42 b + k))) : WGo w U S (tLv U w b n (up S 69 0 n)) := by
  have e : S 69 0 - 1 = n := by omega
  have z : ¬ (S 66 0 = 0 ∧ S 71 n ≠ -1) := fun z => h66.elim (fun y => y z.1) (fun y => z.2 y)
  have t : WT w U S := by
    unfold WT
    rw [e, hb]
    exact ⟨hr, ⟨by omega, h68, h67⟩, fun a b => absurd ⟨a, b⟩ z, h71, fun _ => ⟨hB, h1, h4, h5⟩⟩
  have := WGo.one t
  unfold tWst at this
  rw [e, hb, if_neg z] at this
  exact this
/-- a statement begins -/
theorem WG_begin (hr : WR S) (hn : S 69 0 = n + 1) (n0 : 0 ≤ n) (h68 : S 68 0 = 0) (h67 : -1 ≤ S 67 0 ∧ S 67 0 < 100000) (hs : S 71 n = s) (hA : As w U s) (h0 : 0 ≤ s) (h1 : s < 100000) (h66 : S 66 0 = 0)
    (hB : U 20 s = 4 ∨ U 20 s = 5 ∨ U 20 s = 6 ∨ U 20 s = 9 ∨ U 20 s = 11 → Ab w U (U 27 s)) : WGo w U S (if S 65 0 = 300 then tStpS (up S 71 n (U 24 s)) else tBeg U w s (tStpS (up S 71 n (U 24 s)))) := by
  have e : S 69 0 - 1 = n := by omega
  have z : S 66 0 = 0 ∧ s ≠ -1 := ⟨h66, by omega⟩
  have t : WT w U S := by
    unfold WT
    rw [e, hs]
    exact ⟨hr, ⟨by omega, h68, h67⟩, fun _ _ => ⟨hA, hB⟩, by omega, fun y => absurd z y⟩
  have := WGo.one t
  unfold tWst at this
  rw [e, hs, if_pos z] at this
  exact this
end WGS
