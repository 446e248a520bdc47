/-! PURE: what a step is: a statement *-/
section EVT
variable {w s b x y z what : Int} {S S1 X U U1 V : tSt}
theorem tEnter_f {f : Nat} (hf : f = 3 ∨ f = 15 ∨ f = 37) : tEnter w s b S U f = U f := by
  unfold tEnter tLink
  rcases hf with rfl | rfl | rfl
  · split <;> simp (disch := decide) only [up_n]
  · split <;> simp (disch := decide) only [up_n]
  · split <;> simp (disch := decide) only [up_n]
/-- rows with a statement more, of sort x; U1: with words and names in them -/
theorem evt_0 (d1 : 1 ≤ S 55 0) (n19 : U 19 w ≠ 120) (h46 : U 46 (S 56 (S 55 0 - 1)) ≠ w * 120 + U 19 w) (e : ∀ f, pzF f = true ∨ f = 3 ∨ f = 15 ∨ f = 30 ∨ f = 37 → U1 f = up (tEnter w (w * 120 + U 19 w) (S 56 (S 55 0 - 1)) S U) 20 (w * 120 + U 19 w) x f) (x9 : x ≠ 9) (x10 : x ≠ 10 ∧ (x ≤ 3 ∨ x = 7 ∨ x = 8)) (h55 : X 55 = S 55) (h56 : X 56 = S 56) (h49 : S 49 0 + 1 ≤ X 49 0) : EVt w S U X U1 := by
  have en := (ENT_mk (w := w) (b := S 56 (S 55 0 - 1)) (x := x) (S := S) (U := U)).resolve_right h46
  refine ⟨x, 0, _, U1, d1, n19, en, fun f hf => e f (Or.inl hf), ⟨?_, ?_, ?_⟩, fun j hj => ?_, ?_, Int.le_refl _, Or.inl ⟨rfl, h55, h56, rfl, x9, x10, h49⟩⟩
  · rw [e 3 (by decide), up_n (by decide), tEnter_f (by decide)]
  · rw [e 15 (by decide), up_n (by decide), tEnter_f (by decide)]
  · rw [e 37 (by decide), up_n (by decide), tEnter_f (by decide)]
  · rw [e 30 (by decide), up_n (by decide), tEnter_ne (by decide) hj]
  · rw [e 30 (by decide), up_n (by decide), tEnter_30]
theorem evt_1 {n : Int} (d1 : 1 ≤ S 55 0) (n19 : U 19 w ≠ 120) (h46 : U 46 (S 56 (S 55 0 - 1)) ≠ w * 120 + U 19 w) (e : ∀ f, pzF f = true ∨ f = 3 ∨ f = 15 ∨ f = 37 → U1 f = up (tEnter w (w * 120 + U 19 w) (S 56 (S 55 0 - 1)) S U) 20 (w * 120 + U 19 w) x f) (e30 : ∀ j, j ≠ w * 120 + U 19 w → U1 30 j = U 30 j) (n30 : U1 30 (w * 120 + U 19 w) = n) (n0 : 0 ≤ n) (n9 : x ≠ 9 → n = 0)
    (rs : rsO what x) (rn : what ≠ 3 ∧ what ≠ 6 ∧ what ≠ 7) (iso : tIsO X = true) (h55 : X 55 = S 55) (h56 : X 56 = S 56) (hd : S 55 0 ≤ 8) (si : SI X) (tk : TK X) (h49 : S 49 0 ≤ X 49 0) (h47 : S 49 0 + 1 + n + (if x = 10 then 3 else 0) ≤ X 47 0) : EVt w S U (tOpn w what (w * 120 + U 19 w) 0 27 (w * 120 + U 19 w) X U1).1 (tOpn w what (w * 120 + U 19 w) 0 27 (w * 120 + U 19 w) X U1).2 := by
  have en := (ENT_mk (w := w) (b := S 56 (S 55 0 - 1)) (x := x) (S := S) (U := U)).resolve_right h46
  have d8 := opn_d iso
  rw [tOpn_e iso]
  refine ⟨x, n, _, U1, d1, n19, en, fun f hf => e f (Or.inl hf), ⟨?_, ?_, ?_⟩, e30, n30, n0, Or.inr ⟨what, rs, rn, by rw [h55] at d8; omega, OPF_mk iso (by decide) si tk h49, ?_, fun j => ?_, ?_, n9⟩⟩
  · rw [e 3 (by decide), up_n (by decide), tEnter_f (by decide)]
  · rw [e 15 (by decide), up_n (by decide), tEnter_f (by decide)]
  · rw [e 37 (by decide), up_n (by decide), tEnter_f (by decide)]
  · show oS X (w * 1024 + U1 40 w) 55 0 = _
    rw [oS_6.1, h55]
  · show oS X (w * 1024 + U1 40 w) 56 j = _
    rw [oS_6.2, h55, h56]
  · have := oS_49 (b := w * 1024 + U1 40 w) si iso
    show _ ≤ oS X (w * 1024 + U1 40 w) 49 0
    omega
theorem ev_stmt (hP : PI w S U) (w0 : 0 ≤ w) (d1 : 1 ≤ S 55 0) (s52 : S 52 0 = -1) (e : (tStmt w S U).1 52 0 = -1) : EVt w S U (tStmt w S U).1 (tStmt w S U).2 := by
  have si := hP.1
  have tk := hP.2.1
  have h9 := tk.1
  have hd := si.2.2.2.2.2.2.2
  obtain ⟨-, -, -, u1, u2, u3, u4, u5, u6, u7⟩ := id hP
  have h5 := u5 (S 55 0 - 1) (by omega) (by omega)
  have h46 : U 46 (S 56 (S 55 0 - 1)) ≠ w * 120 + U 19 w := by
    have := (u6 _ h5.1 h5.2).1
    intro z
    rw [z] at this
    omega
  have a47 := tAdv_47 si
  have si1 := SI_adv si
  have tk1 := TK_adv si.1
  have s521 : tAdv S 52 0 = -1 := by rw [tAdv_52]; exact s52
  have k55 : tAdv S 55 = S 55 := tAdv_55.1
  have k56 : tAdv S 56 = S 56 := tAdv_55.2.1
  unfold tStmt at e ⊢
  by_cases q : tBegins S = true ∧ U 19 w ≠ 120
  · rw [if_pos q] at e ⊢
    by_cases q2 : S 51 0 = 123
    · rw [if_pos q2] at e ⊢
      have iso := opn_ok si s52 e
      have t9 := tk.2.2.1 (by omega)
      exact evt_1 (x := 11) (n := 0) d1 q.2 h46 (fun f _ => rfl) (fun j hj => by rw [up_n (by decide), tEnter_ne (by decide) hj]) (by rw [up_n (by decide), tEnter_30]) (Int.le_refl _) (fun _ => rfl) (by unfold rsO; omega) (by decide) iso rfl rfl hd.2 si tk (Int.le_refl _) (by rw [if_neg (by decide)]; omega)
    · rw [if_neg q2] at e ⊢
      have t9 : S 49 0 < S 47 0 := tk.2.2.1 (fun z => by
        have := q.1
        unfold tBegins at this
        rw [tk.2.2.2 (by omega)] at this
        simp [q2] at this
        revert this
        decide)
      unfold tStmt2 at e ⊢
      by_cases q1 : S 50 0 = wDo ∨ S 50 0 = wBreak ∨ S 50 0 = wReturn
      · rw [if_pos q1] at e ⊢
        have e' : tTake (tAdv S) 59 52 0 = -1 := e
        have tk9 := take_49 si1 e' s521
        have tt : tTake (tAdv S) 59 55 = S 55 ∧ tTake (tAdv S) 59 56 = S 56 := by
          have := (Tks_take (s := 59) si1 tk1).2.2.2.1
          exact ⟨by rw [this 55 (by decide) (by decide) (by decide) (by decide) (by decide) (by decide) (by decide)]; exact k55, by rw [this 56 (by decide) (by decide) (by decide) (by decide) (by decide) (by decide) (by decide)]; exact k56⟩
        refine evt_0 (x := if S 50 0 = wDo then 0 else if S 50 0 = wBreak then 7 else 8) d1 q.2 h46 (fun f _ => rfl) ?_ ?_ tt.1 tt.2 (by show _ ≤ tTake (tAdv S) 59 49 0; omega)
        · split
          · decide
          · split <;> decide
        · split
          · decide
          · split <;> decide
      · rw [if_neg q1] at e ⊢
        by_cases q3 : S 50 0 = wThrow ∨ S 50 0 = wSet ∨ S 50 0 = wCall
        · rw [if_pos q3] at e ⊢
          by_cases n : tIsN (tAdv S) = true
          · rw [if_pos n] at e ⊢
            obtain ⟨g53, g54, g47, g49, g50, g51⟩ := tName_g n
            obtain ⟨si2, tk2, m55, m56, _, m52, m47⟩ := nm_name si1 tk1 n
            have b47 := tAdv_47 si1
            have s522 : tName (tAdv S) 52 0 = -1 := by rw [m52]; exact s521
            unfold tStmt3 at e ⊢
            have er : ∀ f, f ≠ 25 → f ≠ 26 → up (up (up (tEnter w (w * 120 + U 19 w) (S 56 (S 55 0 - 1)) S U) 20 (w * 120 + U 19 w) (if S 50 0 = wThrow then 2 else if S 50 0 = wSet then 3 else 1)) 25 (w * 120 + U 19 w) (tName (tAdv S) 53 0)) 26 (w * 120 + U 19 w) (tName (tAdv S) 54 0) f = up (tEnter w (w * 120 + U 19 w) (S 56 (S 55 0 - 1)) S U) 20 (w * 120 + U 19 w) (if S 50 0 = wThrow then 2 else if S 50 0 = wSet then 3 else 1) f := fun f h1 h2 => by rw [up_n h2, up_n h1]
            by_cases q4 : S 50 0 = wCall ∧ tName (tAdv S) 51 0 = 123
            · rw [if_pos q4] at e ⊢
              have iso := opn_ok si2 s522 e
              have x1 : (if S 50 0 = wThrow then (2 : Int) else if S 50 0 = wSet then 3 else 1) = 1 := by rw [q4.1, if_neg (by decide), if_neg (by decide)]
              rw [x1] at er
              rw [x1]
              exact evt_1 (x := 1) (n := 0) d1 q.2 h46 (fun f hf => er f (fun z => by rw [z] at hf; revert hf; decide) (fun z => by rw [z] at hf; revert hf; decide)) (fun j hj => by rw [er 30 (by decide) (by decide), up_n (by decide), tEnter_ne (by decide) hj]) (by rw [er 30 (by decide) (by decide), up_n (by decide), tEnter_30]) (Int.le_refl _) (fun _ => rfl) (by unfold rsO; omega) (by decide) iso (by rw [m55, k55]) (by rw [m56, k56]) hd.2 si2 tk2 (by omega) (by rw [if_neg (by decide)]; omega)
            · rw [if_neg q4] at e ⊢
              have e' : tTake (tName (tAdv S)) 59 52 0 = -1 := e
              have tk9 := take_49 si2 e' s522
              have this := (Tks_take (s := 59) si2 tk2).2.2.2.1
              refine evt_0 (x := if S 50 0 = wThrow then 2 else if S 50 0 = wSet then 3 else 1) d1 q.2 h46 (fun f hf => er f (fun z => by rw [z] at hf; revert hf; decide) (fun z => by rw [z] at hf; revert hf; decide)) ?_ ?_ (by show tTake (tName (tAdv S)) 59 55 = _; rw [this 55 (by decide) (by decide) (by decide) (by decide) (by decide) (by decide) (by decide), m55, k55]) (by show tTake (tName (tAdv S)) 59 56 = _; rw [this 56 (by decide) (by decide) (by decide) (by decide) (by decide) (by decide) (by decide), m56, k56]) (by show _ ≤ tTake (tName (tAdv S)) 59 49 0; omega)
              · split
                · decide
                · split <;> decide
              · split
                · decide
                · split <;> decide
          · rw [if_neg n] at e
            exact (fail_no si1 s521 e).elim
        · rw [if_neg q3] at e ⊢
          have b30 : ∀ k j, j ≠ w * 120 + U 19 w → up (tEnter w (w * 120 + U 19 w) (S 56 (S 55 0 - 1)) S U) 20 (w * 120 + U 19 w) k 30 j = U 30 j := fun k j hj => by rw [up_n (by decide), tEnter_ne (by decide) hj]
          have n30 : ∀ k, up (tEnter w (w * 120 + U 19 w) (S 56 (S 55 0 - 1)) S U) 20 (w * 120 + U 19 w) k 30 (w * 120 + U 19 w) = 0 := fun k => by rw [up_n (by decide), tEnter_30]
          by_cases q4 : S 50 0 = wIf ∨ S 50 0 = wRun
          · rw [if_pos q4] at e ⊢
            have iso := opn_ok si1 s521 e
            by_cases q5 : S 50 0 = wIf
            · rw [if_pos q5, if_pos q5]
              exact evt_1 (x := 4) (n := 0) d1 q.2 h46 (fun f _ => rfl) (b30 _) (n30 _) (Int.le_refl _) (fun _ => rfl) (by unfold rsO; omega) (by decide) iso k55 k56 hd.2 si1 tk1 (by omega) (by rw [if_neg (by decide)]; omega)
            · rw [if_neg q5, if_neg q5]
              have l3 := TK_len (n := 2) tk (by rw [q4.resolve_left q5]; decide)
              have := (tIsO_iff.mp iso).1
              have t91 := tk1.2.2.1 (by omega)
              exact evt_1 (x := 10) (n := 0) d1 q.2 h46 (fun f _ => rfl) (b30 _) (n30 _) (Int.le_refl _) (fun _ => rfl) (by unfold rsO; omega) (by decide) iso k55 k56 hd.2 si1 tk1 (by omega) (by rw [if_pos rfl]; omega)
          · rw [if_neg q4] at e ⊢
            by_cases q5 : S 50 0 = wWhile ∨ S 50 0 = wLoop
            · rw [if_pos q5] at e ⊢
              have iso := opn_ok si1 s521 e
              exact evt_1 (x := if S 50 0 = wWhile then 5 else 6) (n := 0) d1 q.2 h46 (fun f _ => rfl) (b30 _) (n30 _) (Int.le_refl _) (fun _ => rfl) (by unfold rsO; split <;> omega) (by decide) iso k55 k56 hd.2 si1 tk1 (by omega) (by rw [if_neg (by split <;> decide)]; omega)
            · rw [if_neg q5] at e ⊢
              by_cases q6 : tAdv S 51 0 = 40
              · have E30 := n30 9
                have T : tTry w (w * 120 + U 19 w) (tAdv S) (up (tEnter w (w * 120 + U 19 w) (S 56 (S 55 0 - 1)) S U) 20 (w * 120 + U 19 w) 9) = _ := tTry_n E30 q6
                unfold tTry at T
                rw [T] at e ⊢
                obtain ⟨i1, i2, i3, i4, i5, i6, i7, i8, i9⟩ := tLs_st (sp := 44) 5 0 (tAdv S) rfl (by decide) si1 tk1 s521
                by_cases ok : (tLs 44 0 5 (tAdv S)).1 = true
                · have ad := tLs_adv (sp := 44) 5 0 (tAdv S) si1 tk1 ok
                  rw [if_pos ok] at e ⊢
                  by_cases y : (tLs 44 0 5 (tAdv S)).2.1 51 0 = 41
                  · rw [if_pos y] at e ⊢
                    have iso := opn_ok (SI_adv i3) (by rw [tAdv_52]; exact i1 ok) e
                    have c47 := tAdv_47 i3
                    have c9 := i4.1
                    refine evt_1 (x := 9) (n := (tLs 44 0 5 (tAdv S)).2.2.length) d1 q.2 h46 (fun f hf => nW_f (fun z => by rw [z] at hf; revert hf; decide) (fun z => by rw [z] at hf; revert hf; decide) (fun z => by rw [z] at hf; revert hf; decide)) (fun j hj => ?_) ?_ (by omega) (fun z => absurd rfl z) (by unfold rsO; omega) (by decide) iso (by rw [tAdv_55.1, i5, k55]) (by rw [tAdv_55.2.1, i6, k56]) hd.2 (SI_adv i3) (TK_adv i3.1) (by omega) (by rw [if_neg (by decide)]; omega)
                    · rw [nW_c (by decide) (by decide), if_neg hj, b30 _ _ hj]
                    · rw [nW_c (by decide) (by decide), if_pos rfl, E30]
                      omega
                  · rw [if_neg y] at e
                    have e' : tTake (tLs 44 0 5 (tAdv S)).2.1 41 52 0 = -1 := e
                    unfold tTake at e'
                    rw [if_neg y] at e'
                    exact (fail_no i3 (i1 ok) e').elim
                · rw [if_neg ok] at e
                  exact absurd e (i2 ok)
              · rw [if_neg q6] at e ⊢
                have iso := opn_ok si1 s521 e
                exact evt_1 (x := 9) (n := 0) d1 q.2 h46 (fun f _ => rfl) (b30 _) (n30 _) (Int.le_refl _) (fun _ => rfl) (by unfold rsO; omega) (by decide) iso k55 k56 hd.2 si1 tk1 (by omega) (by rw [if_neg (by decide)]; omega)
  · rw [if_neg q] at e
    exact (fail_no si s52 e).elim
end EVT
