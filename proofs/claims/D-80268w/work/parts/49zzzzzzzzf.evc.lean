/-! PURE: what a step is: the end of a block, a kind, a method *-/
section EVC
variable {w x : Int} {S U : tSt}
theorem tLs_52 {sp : Int} : ∀ (d n : Nat) (S : tSt), SI S → TK S → S 52 0 = -1 → (tLs sp n d S).1 = true → (tLs sp n d S).2.1 52 0 = -1 := by
  intro d
  induction d with
  | zero => intro n S _ _ _ h; cases h
  | succ d ih =>
    intro n S si tk s52
    have si1 := SI_adv si
    have tk1 := TK_adv si.1
    rw [tLs]
    by_cases h4 : n = 4
    · rw [if_pos h4]; intro h; cases h
    · rw [if_neg h4]
      by_cases nm : tIsN (tAdv S) = true
      · rw [if_pos nm]
        obtain ⟨si2, tk2, _, _, _, m52, _⟩ := nm_name si1 tk1 nm
        have e52 : tName (tAdv S) 52 0 = -1 := by rw [m52, tAdv_52]; exact s52
        by_cases y : tName (tAdv S) 51 0 = sp
        · rw [if_pos y]
          exact ih (n + 1) (tName (tAdv S)) si2 tk2 e52
        · rw [if_neg y]
          exact fun _ => e52
      · rw [if_neg nm]; intro h; cases h
theorem tLs_53 {sp : Int} : ∀ (d n : Nat) (S : tSt), SI S → TK S → S 52 0 = -1 → n ≤ 4 → 5 ≤ n + d → ¬ (tLs sp n d S).1 = true → (tLs sp n d S).2.1 52 0 ≠ -1 := by
  intro d
  induction d with
  | zero => intro n S _ _ _ h4 h; omega
  | succ d ih =>
    intro n S si tk s52 n4 hd
    have si1 := SI_adv si
    have tk1 := TK_adv si.1
    have s521 : tAdv S 52 0 = -1 := by rw [tAdv_52]; exact s52
    rw [tLs]
    by_cases h4 : n = 4
    · rw [if_pos h4]
      intro _ z
      exact fail_no si1 s521 z
    · rw [if_neg h4]
      by_cases nm : tIsN (tAdv S) = true
      · rw [if_pos nm]
        obtain ⟨si2, tk2, _, _, _, m52, _⟩ := nm_name si1 tk1 nm
        by_cases y : tName (tAdv S) 51 0 = sp
        · rw [if_pos y]
          exact ih (n + 1) (tName (tAdv S)) si2 tk2 (by rw [m52]; exact s521) (by omega) (by omega)
        · rw [if_neg y]
          intro h
          exact absurd rfl h
      · rw [if_neg nm]
        intro _ z
        exact fail_no si1 s521 z
theorem evc_o {f : Nat} {what b0 own : Int} {X : tSt} (h : (what = 3 ∧ f = 28 ∧ U 41 b0 = 2) ∨ (what = 7 ∧ f = 29 ∧ (U 41 b0 = 5 ∨ U 41 b0 = 6))) (hb : b0 = S 56 (S 55 0 - 1)) (ho : own = U 42 b0) (d1 : 1 ≤ S 55 0) (iso : tIsO X = true) (h55 : X 55 0 = S 55 0 - 1) (h56 : X 56 = S 56) (si : SI X) (tk : TK X) (h49 : S 49 0 ≤ X 49 0) (h47 : S 49 0 + 1 ≤ X 47 0) : EVc w S U (tOpn w what own 0 f own X U).1 (tOpn w what own 0 f own X U).2 := by
  subst hb
  subst ho
  rw [tOpn_e iso]
  refine ⟨d1, Or.inr (Or.inl ⟨what, f, h, OPF_mk iso (by omega) si tk h49, ?_, fun j => ?_, ?_⟩)⟩
  · show oS X (w * 1024 + U 40 w) 55 0 = _
    rw [oS_6.1, h55]
    omega
  · show oS X (w * 1024 + U 40 w) 56 j = _
    rw [oS_6.2, h55, h56]
  · have := oS_49 (b := w * 1024 + U 40 w) si iso
    show _ ≤ oS X (w * 1024 + U 40 w) 49 0
    omega
theorem evc_c {b0 own : Int} {X : tSt} (h : U 41 b0 = 5 ∨ U 41 b0 = 6) (hb : b0 = S 56 (S 55 0 - 1)) (ho : own = U 42 b0) (d1 : 1 ≤ S 55 0) (si : SI X) (tk : TK X) (s52 : X 52 0 = -1) (h55 : X 55 0 = S 55 0 - 1) (h56 : X 56 = S 56) (h47 : S 49 0 + 1 ≤ X 47 0) (e : (tCatch w own X U).1 52 0 = -1) : EVc w S U (tCatch w own X U).1 (tCatch w own X U).2 := by
  have si1 := SI_adv si
  have tk1 := TK_adv si.1
  have s521 : tAdv X 52 0 = -1 := by rw [tAdv_52]; exact s52
  have a47 := tAdv_47 si
  by_cases u33 : U 33 own = 4
  · unfold tCatch at e
    rw [if_pos u33] at e
    exact (fail_no si s52 e).elim
  · by_cases h40 : tAdv X 51 0 = 40
    · obtain ⟨V1, V2, T⟩ := tCatch_e (w := w) (S := X) (U := U) u33 h40
      rw [T] at e ⊢
      obtain ⟨i1, i2, i3, i4, i5, i6, i7, i8, i9⟩ := tLs_st (sp := 124) 5 0 (tAdv X) rfl (by decide) si1 tk1 s521
      by_cases ok : (tLs 124 0 5 (tAdv X)).1 = true
      · have ad := tLs_adv (sp := 124) 5 0 (tAdv X) si1 tk1 ok
        rw [if_pos ok] at e ⊢
        generalize tLs 124 0 5 (tAdv X) = L at *
        by_cases nm : tIsN L.2.1 = true
        · rw [if_pos nm] at e ⊢
          obtain ⟨g53, g54, g47, g49, g50, g51⟩ := tName_g nm
          obtain ⟨si2, tk2, m55, m56, _, m52, m47⟩ := nm_name i3 i4 nm
          by_cases y : tName L.2.1 51 0 = 41
          · rw [if_pos y] at e ⊢
            have s523 : tAdv (tName L.2.1) 52 0 = -1 := by rw [tAdv_52, m52]; exact i1 ok
            have iso := opn_ok (SI_adv si2) s523 e
            have c47 := tAdv_47 si2
            have c9 := i4.1
            subst hb
            subst ho
            rw [tOpn_e iso]
            have x55 : tAdv (tName L.2.1) 55 0 = S 55 0 - 1 := by rw [tAdv_55.1, m55, i5, tAdv_55.1]; exact h55
            have x56 : tAdv (tName L.2.1) 56 = S 56 := by rw [tAdv_55.2.1, m56, i6, tAdv_55.2.1]; exact h56
            have er : ∀ f, f ≠ 33 → f ≠ 35 → f ≠ 36 → f ≠ 37 → f ≠ 38 → f ≠ 39 → tRg (U 42 (S 56 (S 55 0 - 1))) L.2.2 (L.2.1 50 0) (L.2.1 49 0) U f = U f := fun f h1 h2 h3 h4 h5 h6 => by
              unfold tRg
              rw [up_n h1, up_n h3, up_n h2, nW_g h4 h5 h6, up_n h4]
            refine ⟨d1, Or.inr (Or.inr ⟨L.2.2.length, tRg (U 42 (S 56 (S 55 0 - 1))) L.2.2 (L.2.1 50 0) (L.2.1 49 0) U, h, u33, fun f hf h3 => er f h3 (fun z => by rw [z] at hf; revert hf; decide) (fun z => by rw [z] at hf; revert hf; decide) (fun z => by rw [z] at hf; revert hf; decide) (fun z => by rw [z] at hf; revert hf; decide) (fun z => by rw [z] at hf; revert hf; decide), fun j => ?_, ⟨er 3 (by decide) (by decide) (by decide) (by decide) (by decide) (by decide), er 15 (by decide) (by decide) (by decide) (by decide) (by decide) (by decide), er 30 (by decide) (by decide) (by decide) (by decide) (by decide) (by decide)⟩, fun j => ?_, by omega, OPF_mk iso (by decide) (SI_adv si2) (TK_adv si2.1) (by have := tk2.1; omega), ?_, fun j => ?_, ?_⟩)⟩
            · unfold tRg
              rw [up_eq]
              by_cases z : j = U 42 (S 56 (S 55 0 - 1))
              · rw [if_pos ⟨rfl, z⟩, if_pos z]
              · rw [if_neg (fun q => z q.2), if_neg z, up_n (by decide), up_n (by decide), nW_g (by decide) (by decide) (by decide), up_n (by decide)]
            · unfold tRg
              rw [up_n (by decide), up_n (by decide), up_n (by decide), nW_c (by decide) (by decide), up_s]
              by_cases z : j = 4 * U 42 (S 56 (S 55 0 - 1)) + U 33 (U 42 (S 56 (S 55 0 - 1)))
              · rw [if_pos z, if_pos z]
                omega
              · rw [if_neg z, if_neg z, up_eq, if_neg (fun q => z q.2)]
            · show oS (tAdv (tName L.2.1)) (w * 1024 + tRg (U 42 (S 56 (S 55 0 - 1))) L.2.2 (L.2.1 50 0) (L.2.1 49 0) U 40 w) 55 0 = S 55 0
              rw [oS_6.1, x55]
              omega
            · show oS (tAdv (tName L.2.1)) (w * 1024 + tRg (U 42 (S 56 (S 55 0 - 1))) L.2.2 (L.2.1 50 0) (L.2.1 49 0) U 40 w) 56 j = _
              rw [oS_6.2, x55, x56]
            · have := oS_49 (b := w * 1024 + tRg (U 42 (S 56 (S 55 0 - 1))) L.2.2 (L.2.1 50 0) (L.2.1 49 0) U 40 w) (SI_adv si2) iso
              show _ ≤ oS (tAdv (tName L.2.1)) (w * 1024 + tRg (U 42 (S 56 (S 55 0 - 1))) L.2.2 (L.2.1 50 0) (L.2.1 49 0) U 40 w) 49 0
              have := tk2.1
              omega
          · rw [if_neg y] at e
            exact (fail_no si2 (by rw [m52]; exact i1 ok) e).elim
        · rw [if_neg nm] at e
          exact (fail_no i3 (i1 ok) e).elim
      · rw [if_neg ok] at e
        exact absurd e (i2 ok)
    · unfold tCatch at e
      rw [if_neg u33, if_neg h40] at e
      exact (fail_no si1 s521 e).elim
theorem ev_close (hP : PI w S U) (qv : QV U) (d1 : 1 ≤ S 55 0) (s52 : S 52 0 = -1) (s51 : S 51 0 = 125) (e : (tClose w S U).1 52 0 = -1) : EVc w S U (tClose w S U).1 (tClose w S U).2 := by
  have si := hP.1
  have tk := hP.2.1
  have si' : SI (up S 55 0 (S 55 0 - 1)) := SI_dec si d1
  have a47 := tAdv_47 si'
  have x47 : up S 55 0 (S 55 0 - 1) 47 0 = S 47 0 := by rw [up_n (by decide)]
  have t9 := tk.2.2.1 (by omega)
  have si1 := SI_adv si'
  have tk1 := TK_adv si'.1
  have s521 : tAdv (up S 55 0 (S 55 0 - 1)) 52 0 = -1 := by rw [tAdv_52, up_n (by decide)]; exact s52
  have k55 : tAdv (up S 55 0 (S 55 0 - 1)) 55 0 = S 55 0 - 1 := by rw [tAdv_55.1, up_s]
  have k56 : tAdv (up S 55 0 (S 55 0 - 1)) 56 = S 56 := by rw [tAdv_55.2.1, up_n (by decide)]
  unfold tClose at e ⊢
  generalize tAdv (up S 55 0 (S 55 0 - 1)) = X at *
  -- nothing more comes
  have pl : ∀ Y : tSt, Y 55 0 = S 55 0 - 1 → Y 56 = S 56 → S 49 0 + 1 + (if U 41 (S 56 (S 55 0 - 1)) = 8 then 1 else 0) ≤ Y 49 0 → EVc w S U Y U := fun Y h1 h2 h3 => ⟨d1, Or.inl ⟨0, fun _ _ => rfl, ⟨rfl, rfl, rfl⟩, fun _ _ => rfl, by omega, Int.le_refl _, fun z => absurd rfl z, h1, h2, by omega⟩⟩
  have tt : tTake X 59 52 0 = -1 → tTake X 59 55 0 = S 55 0 - 1 ∧ tTake X 59 56 = S 56 ∧ X 49 0 + 1 ≤ tTake X 59 49 0 := fun y => by
    have this := (Tks_take (s := 59) si1 tk1).2.2.2.1
    have h49 := take_49 si1 y s521
    refine ⟨by rw [this 55 (by decide) (by decide) (by decide) (by decide) (by decide) (by decide) (by decide)]; exact k55, by rw [this 56 (by decide) (by decide) (by decide) (by decide) (by decide) (by decide) (by decide)]; exact k56, ?_⟩
    have : X 51 0 = 59 := by
      apply Classical.byContradiction
      intro z
      unfold tTake at y
      rw [if_neg z] at y
      exact fail_no si1 s521 y
    have := tk1.2.2.1 (by omega)
    omega
  have be : ∀ bo, (U 41 (S 56 (S 55 0 - 1)) = 5 ∨ U 41 (S 56 (S 55 0 - 1)) = 6) → (tBehind w (U 42 (S 56 (S 55 0 - 1))) bo X U).1 52 0 = -1 → EVc w S U (tBehind w (U 42 (S 56 (S 55 0 - 1))) bo X U).1 (tBehind w (U 42 (S 56 (S 55 0 - 1))) bo X U).2 := fun bo h y => by
    unfold tBehind at y ⊢
    have t1 := tk1.1
    by_cases q : X 50 0 = wCatch
    · rw [if_pos q] at y ⊢
      exact evc_c h rfl rfl d1 si1 tk1 s521 k55 k56 (by omega) y
    · rw [if_neg q] at y ⊢
      by_cases q2 : X 50 0 = wFinally
      · rw [if_pos q2] at y ⊢
        have iso := opn_ok (SI_adv si1) (by rw [tAdv_52]; exact s521) y
        have b47 := tAdv_47 si1
        exact evc_o (Or.inr ⟨rfl, rfl, h⟩) rfl rfl d1 iso (by rw [tAdv_55.1]; exact k55) (by rw [tAdv_55.2.1]; exact k56) (SI_adv si1) (TK_adv si1.1) (by omega) (by omega)
      · rw [if_neg q2] at y ⊢
        by_cases q3 : bo = true ∧ U 30 (U 42 (S 56 (S 55 0 - 1))) = 0
        · rw [if_pos q3] at y
          exact (fail_no si1 s521 y).elim
        · rw [if_neg q3]
          exact pl X k55 k56 (by rw [if_neg (by omega)]; omega)
  unfold tShut at e ⊢
  by_cases q1 : U 41 (S 56 (S 55 0 - 1)) = 1
  · rw [if_pos q1] at e ⊢
    obtain ⟨y1, y2, y3⟩ := tt e
    exact pl _ y1 y2 (by rw [if_neg (by omega)]; show _ ≤ tTake X 59 49 0; omega)
  · rw [if_neg q1] at e ⊢
    by_cases q2 : U 41 (S 56 (S 55 0 - 1)) = 2
    · rw [if_pos q2] at e ⊢
      by_cases q : X 50 0 = wElse
      · rw [if_pos q] at e ⊢
        have iso := opn_ok (SI_adv si1) (by rw [tAdv_52]; exact s521) e
        have b47 := tAdv_47 si1
        have t1 := tk1.1
        exact evc_o (Or.inl ⟨rfl, rfl, q2⟩) rfl rfl d1 iso (by rw [tAdv_55.1]; exact k55) (by rw [tAdv_55.2.1]; exact k56) (SI_adv si1) (TK_adv si1.1) (by omega) (by omega)
      · rw [if_neg q]
        exact pl X k55 k56 (by rw [if_neg (by omega)]; omega)
    · rw [if_neg q2] at e ⊢
      by_cases q8 : U 41 (S 56 (S 55 0 - 1)) = 8
      · rw [if_pos q8] at e ⊢
        by_cases q : X 50 0 = wThrows
        · rw [if_pos q] at e ⊢
          have u30 := QV_b qv (f := 30) (c := 4) rfl rfl rfl (U 42 (S 56 (S 55 0 - 1)))
          have NLs := tNam_ls (x := U 42 (S 56 (S 55 0 - 1))) 59 5 (U 30 (U 42 (S 56 (S 55 0 - 1)))).toNat X U (by omega)
          have kt := tLs_tks (sp := 44) 5 (U 30 (U 42 (S 56 (S 55 0 - 1)))).toNat X si1 tk1
          have ad := tLs_adv (sp := 44) 5 (U 30 (U 42 (S 56 (S 55 0 - 1)))).toNat X si1 tk1
          have ls52 : (tLs 44 (U 30 (U 42 (S 56 (S 55 0 - 1)))).toNat 5 X).1 = true → (tLs 44 (U 30 (U 42 (S 56 (S 55 0 - 1)))).toNat 5 X).2.1 52 0 = -1 := tLs_52 5 _ X si1 tk1 s521
          have ls53 : ¬ (tLs 44 (U 30 (U 42 (S 56 (S 55 0 - 1)))).toNat 5 X).1 = true → (tLs 44 (U 30 (U 42 (S 56 (S 55 0 - 1)))).toNat 5 X).2.1 52 0 ≠ -1 := tLs_53 5 _ X si1 tk1 s521 (by omega) (by omega)
          rw [NLs] at e ⊢
          generalize tLs 44 (U 30 (U 42 (S 56 (S 55 0 - 1)))).toNat 5 X = L at *
          by_cases ok : L.1 = true
          · rw [if_pos ok] at e ⊢
            have e' : tTake L.2.1 59 52 0 = -1 := e
            have l51 : L.2.1 51 0 = 59 := by
              apply Classical.byContradiction
              intro z
              unfold tTake at e'
              rw [if_neg z] at e'
              exact fail_no kt.1 (ls52 ok) e'
            have t2 := kt.2.1.2.2.1 (by omega)
            have h49 := take_49 kt.1 e' (ls52 ok)
            have this := (Tks_take (s := 59) kt.1 kt.2.1).2.2.2.1
            have ad' := ad ok
            have t1 := tk1.1
            refine ⟨d1, Or.inl ⟨L.2.2.length, fun f hf => nW_f (fun z => by rw [z] at hf; revert hf; decide) (fun z => by rw [z] at hf; revert hf; decide) (fun z => by rw [z] at hf; revert hf; decide), ⟨nW_f (by decide) (by decide) (by decide), nW_f (by decide) (by decide) (by decide), nW_f (by decide) (by decide) (by decide)⟩, fun j hj => ?_, ?_, by omega, fun _ => q8, ?_, ?_, ?_⟩⟩
            · show nW 30 31 32 _ L.2.2 U 30 j = _
              rw [nW_c (by decide) (by decide), if_neg hj]
            · show nW 30 31 32 _ L.2.2 U 30 _ = _
              rw [nW_c (by decide) (by decide), if_pos rfl]
            · show tTake L.2.1 59 55 0 = _
              rw [this 55 (by decide) (by decide) (by decide) (by decide) (by decide) (by decide) (by decide), kt.2.2.2.1 55 (by decide) (by decide) (by decide) (by decide) (by decide) (by decide) (by decide)]
              exact k55
            · show tTake L.2.1 59 56 = _
              rw [this 56 (by decide) (by decide) (by decide) (by decide) (by decide) (by decide) (by decide), kt.2.2.2.1 56 (by decide) (by decide) (by decide) (by decide) (by decide) (by decide) (by decide)]
              exact k56
            · show _ ≤ tTake L.2.1 59 49 0
              rw [if_pos q8]
              omega
          · rw [if_neg ok] at e
            exact absurd e (ls53 ok)
        · rw [if_neg q] at e ⊢
          obtain ⟨y1, y2, y3⟩ := tt e
          exact pl _ y1 y2 (by rw [if_pos q8]; show _ ≤ tTake X 59 49 0; omega)
      · rw [if_neg q8] at e ⊢
        by_cases q5 : U 41 (S 56 (S 55 0 - 1)) = 5
        · rw [if_pos q5] at e ⊢
          exact be true (Or.inl q5) e
        · rw [if_neg q5] at e ⊢
          by_cases q6 : U 41 (S 56 (S 55 0 - 1)) = 6
          · rw [if_pos q6] at e ⊢
            exact be false (Or.inr q6) e
          · rw [if_neg q6]
            exact pl X k55 k56 (by rw [if_neg q8]; omega)
end EVC
