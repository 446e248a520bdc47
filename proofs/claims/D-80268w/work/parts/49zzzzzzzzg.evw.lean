/-! PURE: what a step is: a kind, a method; all together *-/
section EVW
variable {w x n p n2 p2 fr : Int} {S X U V W : tSt} {N : List (Int × Int)}
theorem ev_kind (hP : PI w S U) (s52 : S 52 0 = -1) (e : (tKind w S U).1 52 0 = -1) : EVk w S U (tKind w S U).1 (tKind w S U).2 := by
  have si := hP.1
  have tk := hP.2.1
  have si1 := SI_adv si
  have tk1 := TK_adv si.1
  have a47 := tAdv_47 si
  have s521 : tAdv S 52 0 = -1 := by rw [tAdv_52]; exact s52
  by_cases u3 : U 3 w = 16
  · unfold tKind at e
    rw [if_pos u3] at e
    exact (fail_no si s52 e).elim
  · by_cases n1 : tIsN (tAdv S) = true
    · obtain ⟨g53, g54, g47, g49, g50, g51⟩ := tName_g n1
      obtain ⟨si2, tk2, m55, m56, _, m52, m47⟩ := nm_name si1 tk1 n1
      have s522 : tName (tAdv S) 52 0 = -1 := by rw [m52]; exact s521
      have b47 := tAdv_47 si2
      have si3 := SI_adv si2
      have tk3 := TK_adv si2.1
      have s523 : tAdv (tName (tAdv S)) 52 0 = -1 := by rw [tAdv_52]; exact s522
      by_cases q : tName (tAdv S) 50 0 = wBelow
      · by_cases n3 : tIsN (tAdv (tName (tAdv S))) = true
        · obtain ⟨si4, tk4, k55, k56, _, k52, k47⟩ := nm_name si3 tk3 n3
          by_cases q5 : tName (tAdv (tName (tAdv S))) 51 0 = 59
          · rw [tKind_e u3 n1 q n3 q5]
            have c47 := tAdv_47 si4
            have w1 : tAdv S 49 0 < tAdv S 47 0 := tk1.2.2.1 (fun y => (tIsN_iff.mp n1).1 (tk1.2.2.2 (by omega)))
            have t0 := tk.1
            refine ⟨fun f hf => nkU_o (by omega), nkU_3, ?_, ?_, ?_⟩
            · show tAdv (tName (tAdv (tName (tAdv S)))) 55 = S 55
              rw [tAdv_55.1, k55, tAdv_55.1, m55, tAdv_55.1]
            · show tAdv (tName (tAdv (tName (tAdv S)))) 56 = S 56
              rw [tAdv_55.2.1, k56, tAdv_55.2.1, m56, tAdv_55.2.1]
            · show _ ≤ tAdv (tName (tAdv (tName (tAdv S)))) 49 0
              omega
          · unfold tKind tKind2 tKind3 at e
            rw [if_neg u3, if_pos n1, if_pos q, if_pos n3, if_neg q5] at e
            exact (fail_no si4 (by rw [k52]; exact s523) e).elim
        · unfold tKind tKind2 at e
          rw [if_neg u3, if_pos n1, if_pos q, if_neg n3] at e
          exact (fail_no si3 s523 e).elim
      · unfold tKind tKind2 at e
        rw [if_neg u3, if_pos n1, if_neg q] at e
        exact (fail_no si2 s522 e).elim
    · unfold tKind at e
      rw [if_neg u3, if_neg n1] at e
      exact (fail_no si1 s521 e).elim
/-- from the end of a method's head on; k: how far the text was read -/
theorem evw_4 (u9 : U 9 w ≠ 12) (wr : WRy (w * 12 + U 9 w) n p n2 p2 fr N U V) (d0 : S 55 0 = 0) (si : SI X) (tk : TK X) (s52 : X 52 0 = -1) (h55 : X 55 = S 55) (h56 : X 56 = S 56) (h49 : S 49 0 + 4 + N.length ≤ X 49 0) (e : (tWay4 w (w * 12 + U 9 w) X V).1 52 0 = -1) : EVw w S U (tWay4 w (w * 12 + U 9 w) X V).1 (tWay4 w (w * 12 + U 9 w) X V).2 := by
  have e9 : V 9 w = U 9 w := by rw [wr.1 9 (by decide)]
  have a47 := tAdv_47 si
  have f1 : ∀ f, f ≤ 8 ∨ 19 ≤ f → up V 9 w (U 9 w + 1) f = U f := fun f hf => by rw [up_n (by omega), wr.1 f (by omega)]
  have f2 : ∀ f j, f = 15 ∨ f = 18 → j ≠ w * 12 + U 9 w → up V 9 w (U 9 w + 1) f j = U f j := fun f j hf hj => by rw [up_n (by omega), wr.2.1 f j (by omega) hj]
  have f3 : up V 9 w (U 9 w + 1) 18 (w * 12 + U 9 w) = -1 := by rw [up_n (by decide)]; exact wr.2.2.2.1.2.2.2.2.2.2
  have f4 : up V 9 w (U 9 w + 1) 15 (w * 12 + U 9 w) = N.length := by rw [up_n (by decide)]; exact wr.2.2.2.1.2.2.2.2.2.1
  unfold tWay4 at e ⊢
  rw [e9] at e ⊢
  by_cases q : X 51 0 = 59
  · rw [if_pos q]
    have := tk.2.2.1 (by omega)
    refine ⟨u9, d0, up V 9 w (U 9 w + 1), f1, up_s, f2, f3, by rw [f4]; omega, Or.inl ⟨rfl, by show tAdv X 55 = _; rw [tAdv_55.1, h55], by show tAdv X 56 = _; rw [tAdv_55.2.1, h56], ?_⟩⟩
    rw [f4]
    show _ ≤ tAdv X 49 0
    omega
  · rw [if_neg q] at e ⊢
    have iso := opn_ok si s52 e
    rw [tOpn_e iso]
    have op := OPF_mk (S := S) (w := w) (what := 0) (own := -1) (num := U 9 w + 1 - 1) (f := 18) (i := w * 12 + U 9 w) (U := up V 9 w (U 9 w + 1)) iso (by decide) si tk (by omega)
    rw [show U 9 w + 1 - 1 = U 9 w by omega] at op ⊢
    have x123 := (tIsO_iff.mp iso).1
    have := tk.2.2.1 (by omega)
    have o49 := oS_49 (b := w * 1024 + up V 9 w (U 9 w + 1) 40 w) si iso
    refine ⟨u9, d0, up V 9 w (U 9 w + 1), f1, up_s, f2, f3, by rw [f4]; omega, Or.inr ⟨op, ?_, fun j => ?_, ?_⟩⟩
    · show oS X (w * 1024 + up V 9 w (U 9 w + 1) 40 w) 55 0 = 1
      rw [oS_6.1, h55, d0]
      rfl
    · show oS X (w * 1024 + up V 9 w (U 9 w + 1) 40 w) 56 j = _
      rw [oS_6.2, h55, h56]
    · rw [f4]
      show _ ≤ oS X (w * 1024 + up V 9 w (U 9 w + 1) 40 w) 49 0
      omega
theorem evw_3 {b : Bool} (u9 : U 9 w ≠ 12) (hn : b = true → n2 ≠ 0) (hb : b = false → n2 = 0) (d0 : S 55 0 = 0) (si : SI X) (tk : TK X) (s52 : X 52 0 = -1) (h55 : X 55 = S 55) (h56 : X 56 = S 56) (h49 : S 49 0 + 4 ≤ X 49 0)
    (e : (tWay3 w (w * 12 + U 9 w) X (up (if b = true then up (up (wy0 (w * 12 + U 9 w) n p U) 12 (w * 12 + U 9 w) n2) 13 (w * 12 + U 9 w) p2 else wy0 (w * 12 + U 9 w) n p U) 14 (w * 12 + U 9 w) fr)).1 52 0 = -1) :
    EVw w S U (tWay3 w (w * 12 + U 9 w) X (up (if b = true then up (up (wy0 (w * 12 + U 9 w) n p U) 12 (w * 12 + U 9 w) n2) 13 (w * 12 + U 9 w) p2 else wy0 (w * 12 + U 9 w) n p U) 14 (w * 12 + U 9 w) fr)).1 (tWay3 w (w * 12 + U 9 w) X (up (if b = true then up (up (wy0 (w * 12 + U 9 w) n p U) 12 (w * 12 + U 9 w) n2) 13 (w * 12 + U 9 w) p2 else wy0 (w * 12 + U 9 w) n p U) 14 (w * 12 + U 9 w) fr)).2 := by
  have WRm := fun (N : List (Int × Int)) (hN : N.length ≤ 4) => WR_mk (x := w * 12 + U 9 w) (n := n) (p := p) (n2 := n2) (p2 := p2) (fr := fr) (U := U) (b := b) hN hn hb
  have w15 : up (if b = true then up (up (wy0 (w * 12 + U 9 w) n p U) 12 (w * 12 + U 9 w) n2) 13 (w * 12 + U 9 w) p2 else wy0 (w * 12 + U 9 w) n p U) 14 (w * 12 + U 9 w) fr 15 (w * 12 + U 9 w) = 0 := (WRm [] (by decide)).2.2.2.1.2.2.2.2.2.1
  generalize up (if b = true then up (up (wy0 (w * 12 + U 9 w) n p U) 12 (w * 12 + U 9 w) n2) 13 (w * 12 + U 9 w) p2 else wy0 (w * 12 + U 9 w) n p U) 14 (w * 12 + U 9 w) fr = W at *
  unfold tWay3 at e ⊢
  by_cases q : X 50 0 = wThrows
  · rw [if_pos q] at e ⊢
    rw [tThr_ls (x := w * 12 + U 9 w) 5 0 X W w15] at e ⊢
    obtain ⟨i1, i2, i3, i4, i5, i6, i7, i8, i9⟩ := tLs_st (sp := 44) 5 0 X rfl (by decide) si tk s52
    by_cases ok : (tLs 44 0 5 X).1 = true
    · rw [if_pos ok] at e ⊢
      have ad := tLs_adv (sp := 44) 5 0 X si tk ok
      have t0 := tk.1
      exact evw_4 u9 (WRm _ (by omega)) d0 i3 i4 (i1 ok) (by rw [i5, h55]) (by rw [i6, h56]) (by show _ ≤ (tLs 44 0 5 X).2.1 49 0; omega) e
    · rw [if_neg ok] at e
      exact absurd e (i2 ok)
  · rw [if_neg q] at e ⊢
    exact evw_4 (N := []) u9 (WRm [] (by decide)) d0 si tk s52 h55 h56 (by simp; omega) e
theorem evw_2 {b : Bool} (u9 : U 9 w ≠ 12) (hn : b = true → n2 ≠ 0) (hb : b = false → n2 = 0) (d0 : S 55 0 = 0) (si : SI X) (tk : TK X) (s52 : X 52 0 = -1) (h55 : X 55 = S 55) (h56 : X 56 = S 56) (h49 : S 49 0 + 4 ≤ X 49 0)
    (e : (tWay2 w (w * 12 + U 9 w) X (if b = true then up (up (wy0 (w * 12 + U 9 w) n p U) 12 (w * 12 + U 9 w) n2) 13 (w * 12 + U 9 w) p2 else wy0 (w * 12 + U 9 w) n p U)).1 52 0 = -1) :
    EVw w S U (tWay2 w (w * 12 + U 9 w) X (if b = true then up (up (wy0 (w * 12 + U 9 w) n p U) 12 (w * 12 + U 9 w) n2) 13 (w * 12 + U 9 w) p2 else wy0 (w * 12 + U 9 w) n p U)).1 (tWay2 w (w * 12 + U 9 w) X (if b = true then up (up (wy0 (w * 12 + U 9 w) n p U) 12 (w * 12 + U 9 w) n2) 13 (w * 12 + U 9 w) p2 else wy0 (w * 12 + U 9 w) n p U)).2 := by
  unfold tWay2 at e ⊢
  by_cases q : X 50 0 = wFree
  · rw [if_pos q] at e ⊢
    have a47 := tAdv_47 si
    have t0 := tk.1
    exact evw_3 u9 hn hb d0 (SI_adv si) (TK_adv si.1) (by rw [tAdv_52]; exact s52) (by rw [tAdv_55.1, h55]) (by rw [tAdv_55.2.1, h56]) (by omega) e
  · rw [if_neg q] at e ⊢
    exact evw_3 u9 hn hb d0 si tk s52 h55 h56 h49 e
theorem ev_way (hP : PI w S U) (d0 : S 55 0 = 0) (s52 : S 52 0 = -1) (s50 : S 50 0 = wWay) (e : (tWay w S U).1 52 0 = -1) : EVw w S U (tWay w S U).1 (tWay w S U).2 := by
  have si := hP.1
  have tk := hP.2.1
  have si1 := SI_adv si
  have tk1 := TK_adv si.1
  have a47 := tAdv_47 si
  have s521 : tAdv S 52 0 = -1 := by rw [tAdv_52]; exact s52
  have l3 := TK_len (n := 2) tk (by rw [s50]; decide)
  by_cases u9 : U 9 w = 12
  · unfold tWay at e
    rw [if_pos u9] at e
    exact (fail_no si s52 e).elim
  · by_cases n1 : tIsN (tAdv S) = true
    · obtain ⟨g53, g54, g47, g49, g50, g51⟩ := tName_g n1
      obtain ⟨si2, tk2, m55, m56, _, m52, m47⟩ := nm_name si1 tk1 n1
      have s522 : tName (tAdv S) 52 0 = -1 := by rw [m52]; exact s521
      have b47 := tAdv_47 si1
      have c47 := tAdv_47 si2
      have w1 : tAdv S 49 0 < tAdv S 47 0 := tk1.2.2.1 (fun y => (tIsN_iff.mp n1).1 (tk1.2.2.2 (by omega)))
      have h55 : tName (tAdv S) 55 = S 55 := by rw [m55, tAdv_55.1]
      have h56 : tName (tAdv S) 56 = S 56 := by rw [m56, tAdv_55.2.1]
      have tw0 : tWay w S U = tWay1 w (w * 12 + U 9 w) (tName (tAdv S)) (wy0 (w * 12 + U 9 w) (tAdv S 50 0) (tAdv S 49 0) U) := by
        unfold tWay wy0
        rw [if_neg u9, if_pos n1, g53, g54]
      rw [tw0] at e ⊢
      unfold tWay1 at e ⊢
      by_cases q : tName (tAdv S) 50 0 = wOver
      · rw [if_pos q] at e ⊢
        have si3 := SI_adv si2
        have tk3 := TK_adv si2.1
        have s523 : tAdv (tName (tAdv S)) 52 0 = -1 := by rw [tAdv_52]; exact s522
        by_cases n3 : tIsN (tAdv (tName (tAdv S))) = true
        · rw [if_pos n3] at e ⊢
          obtain ⟨k53, k54, k47, k49, _, _⟩ := tName_g n3
          obtain ⟨si4, tk4, k55, k56, _, k52, k47'⟩ := nm_name si3 tk3 n3
          have zn : tName (tAdv (tName (tAdv S))) 53 0 ≠ 0 := by rw [k53]; exact (tIsN_iff.mp n3).1
          have d47 := tAdv_47 si3
          have t2 := tk2.1
          have t3 := tk3.1
          exact evw_2 (b := true) u9 (fun _ => zn) (fun z => by cases z) d0 si4 tk4 (by rw [k52]; exact s523) (by rw [k55, tAdv_55.1, h55]) (by rw [k56, tAdv_55.2.1, h56]) (by omega) e
        · rw [if_neg n3] at e
          exact (fail_no si3 s523 e).elim
      · rw [if_neg q] at e ⊢
        exact evw_2 (b := false) (n2 := 0) (p2 := 0) u9 (fun z => by cases z) (fun _ => rfl) d0 si2 tk2 s522 h55 h56 (by omega) e
    · unfold tWay at e
      rw [if_neg u9, if_neg n1] at e
      exact (fail_no si1 s521 e).elim
theorem ev_step (hP : PI w S U) (w0 : 0 ≤ w) (qv : QV U) (m : tMore S = true) (e : (tStep w S U).1 52 0 = -1) : EV w S U (tStep w S U).1 (tStep w S U).2 := by
  have s52 := more_52 m
  have hd := hP.1.2.2.2.2.2.2.2
  unfold tStep at e ⊢
  by_cases q1 : S 55 0 = 0
  · rw [if_pos q1] at e ⊢
    by_cases q2 : S 50 0 = wKind
    · rw [if_pos q2] at e ⊢
      exact Or.inl ⟨q1, ev_kind hP s52 e⟩
    · rw [if_neg q2] at e ⊢
      by_cases q3 : S 50 0 = wWay
      · rw [if_pos q3] at e ⊢
        exact Or.inr (Or.inl (ev_way hP q1 s52 q3 e))
      · rw [if_neg q3] at e
        exact (fail_no hP.1 s52 e).elim
  · rw [if_neg q1] at e ⊢
    by_cases q2 : S 51 0 = 125
    · rw [if_pos q2] at e ⊢
      exact Or.inr (Or.inr (Or.inr (ev_close hP qv (by omega) s52 q2 e)))
    · rw [if_neg q2] at e ⊢
      exact Or.inr (Or.inr (Or.inl (ev_stmt hP w0 (by omega) s52 e)))
end EVW
