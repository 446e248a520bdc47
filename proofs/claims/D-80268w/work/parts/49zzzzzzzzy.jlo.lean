/-! COMPONENT, 115: left of a loop *-/
section JLO
variable {R : Nat → Nat} {A : Nat → Int → Nat} {T : Nat → Nat} {w p0 s d : Int} {U : tSt} {c l g : Int → Int} {v v' : vT} {r : Nat} {h : am_H} {Q : am_O → am_H → Prop}
/-- a try whose finally is not left -/
def hlT (U : tSt) (l : Int → Int) (t : Int) : Bool := decide (U 29 t ≠ -1) && !isL U l (U 29 t)
theorem tFor_any {p : Int → Bool} : ∀ (n : Nat) (i : Int) (a : Bool), tFor (fun k a => a || p k) n i a = true ↔ a = true ∨ ∃ k, i ≤ k ∧ k < i + n ∧ p k = true := by
  intro n
  induction n with
  | zero =>
    intro i a
    constructor
    · intro h; exact Or.inl h
    · rintro (h | ⟨k, h1, h2, _⟩)
      · exact h
      · omega
  | succ n ih =>
    intro i a
    rw [tFor, ih, Bool.or_eq_true]
    constructor
    · rintro ((h | h) | ⟨k, h1, h2, h3⟩)
      · exact Or.inl h
      · exact Or.inr ⟨i, by omega, by omega, h⟩
      · exact Or.inr ⟨k, by omega, by omega, h3⟩
    · rintro (h | ⟨k, h1, h2, h3⟩)
      · exact Or.inl (Or.inl h)
      · by_cases e : k = i
        · rw [e] at h3; exact Or.inl (Or.inr h3)
        · exact Or.inr ⟨k, by omega, by omega, h3⟩
/-- the tries between a place and its loop: their blocks, and held -/
theorem held_up (pw : PW w U) (w0 : 0 ≤ w) (za : ZA w U) (hs : As w U s) (e : U 20 s = 5 ∨ U 20 s = 6) : ∀ (n : Nat) (b : Int), Ab w U b → tTg U n b = s → uB w U s b ∧ (∀ t, t ∈ tTr U n b → As w U t ∧ U 20 t = 9 ∧ uB w U s (U 22 t)) ∧ ∀ a, tHd U l s n b a = (a || (tTr U n b).any (hlT U l)) := by
  intro n
  induction n with
  | zero => intro b hb h; have : (-1 : Int) = s := h; have := hs.1; omega
  | succ n ih =>
    intro b hb h
    have s0 : 0 ≤ s := by have := hs.1; omega
    rw [tTg] at h
    by_cases q1 : U 41 b = 0 ∨ U 41 b = 1 ∨ U 41 b = 8
    · rw [if_pos q1] at h; omega
    · rw [if_neg q1] at h
      have o := par_ab pw hb (by omega)
      have rs := ((za b hb).2 (by omega)).2
      by_cases q2 : U 41 b = 4
      · rw [if_pos q2] at h
        refine ⟨⟨b, ⟨hb, h, by omega⟩, anc_rf⟩, fun t ht => ?_, fun a => ?_⟩
        · rw [tTr, if_neg q1, if_pos q2] at ht
          simp at ht
        · rw [tTr, if_neg q1, if_pos q2, tHd, if_pos h]
          simp
      · rw [if_neg q2] at h
        obtain ⟨i1, i2, i3⟩ := ih _ o.2 h
        have ne : U 42 b ≠ s := fun y => by
          rw [y] at rs
          unfold rsO at rs
          omega
        refine ⟨?_, fun t ht => ?_, fun a => ?_⟩
        · obtain ⟨d, d1, d2⟩ := i1
          exact ⟨d, d1, anc_tr ⟨1, by omega, rfl⟩ d2⟩
        · rw [tTr, if_neg q1, if_neg q2] at ht
          rcases List.mem_append.mp ht with z | z
          · by_cases q3 : U 41 b = 5 ∨ U 41 b = 6
            · rw [if_pos q3] at z
              simp at z
              rw [z]
              exact ⟨o.1, by unfold rsO at rs; omega, i1⟩
            · rw [if_neg q3] at z; simp at z
          · exact i2 t z
        · rw [tHd, if_neg ne, i3, tTr, if_neg q1, if_neg q2, List.any_append, ← Bool.or_assoc]
          congr 2
          by_cases q3 : U 41 b = 5 ∨ U 41 b = 6
          · have e9 : U 20 (U 42 b) = 9 := by unfold rsO at rs; omega
            rw [if_pos q3, decide_eq_true e9, decide_eq_true (p := U 41 b ≠ 7) (by omega)]
            simp [hlT]
          · rw [if_neg q3]
            by_cases q4 : U 41 b = 7
            · simp [q4]
            · have e9 : U 20 (U 42 b) ≠ 9 := by unfold rsO at rs; omega
              simp [e9]
theorem tTr_le : ∀ (n : Nat) (b : Int), (tTr U n b).length ≤ n := by
  intro n
  induction n with
  | zero => intro b; exact Nat.le_refl _
  | succ n ih =>
    intro b
    rw [tTr]
    split
    · exact Nat.zero_le _
    · split
      · exact Nat.zero_le _
      · rw [List.length_append]
        have := ih (U 22 (U 42 b))
        split
        · rw [List.length_singleton]; omega
        · rw [List.length_nil]; omega
/-- isHeld: the tries -/
theorem held_l (cr : CR h v) {ba bt : Nat} {lp : Option Nat} {L : List Int} (bk : BK v ba bt lp (L.map (fun k => some (A 2 k)))) (hl : L.length ≤ 3000) (ok : ∀ t, t ∈ L → hK v.1 (A 2 t) = 36 ∧ hR v.1 (A 2 t) 10 = optA (A 3) (U 29 t) ∧ (U 29 t ≠ -1 → hK v.1 (A 3 (U 29 t)) = 21 ∧ hI v.1 (A 3 (U 29 t)) 3 = bI (isL U l (U 29 t) = true))) (q : Q (Sum.inl (some (vI (bI (L.any (hlT U l) = true))))) h) :
    ∀ (E D : List Int) (a : Bool) (l3 : Option am_V), L = D ++ E → a = D.any (hlT U l) → Rn r 287 4 [some (vR (some ba)), some (vI (bI (a = true))), some (vI (iI D.length)), l3] [] h Q := by
  obtain ⟨k1, _, r6, kl, lv⟩ := bk
  have len : (vLs v bt).length = L.length := by rw [lv, List.length_map]
  intro E
  induction E with
  | nil =>
    intro D a l3 hL ha
    rw [List.append_nil] at hL
    have ll := congrArg List.length hL
    rw [sX19_isHeld_4, sX19_isHeld_5, sX19_isHeld_6 (cr.kk k1 (by decide)), cr.rr k1 rfl, r6, sX19_isHeld_9 (cr.kk kl (by decide)), v_size cr kl, Kt_v, sX19_isHeld_12, len, if_pos (by rw [iI_le (by omega) (by omega) (by omega) (by omega), ll]; exact Int.le_refl _), sX19_isHeld_55, sX19_isHeld_56 am_fit4, ha, ← hL]
    exact q
  | cons t E ih =>
    intro D a l3 hL ha
    have ll := congrArg List.length hL
    rw [List.length_append, List.length_cons] at ll
    obtain ⟨kt, r10, bf⟩ := ok t (by rw [hL]; simp)
    have ge : (vLs v bt).getD ((D.length : Int)).toNat none = some (A 2 t) := by rw [lv, hL, Int.toNat_natCast]; exact map_getD _ D E t none
    have nn : iI ((D.length : Nat) : Int) + 1 = iI ((D ++ [t]).length : Nat) := by
      rw [List.length_append, List.length_singleton]
      exact iI_add _ 1
    have go : Rn r 287 47 [some (vR (some ba)), some (vI (bI (a = true))), some (vI (iI D.length)), some (vR (optA (A 3) (U 29 t)))] [vI (bI (hlT U l t = true)), vI (bI (a = true))] h Q := by
      rw [sX19_isHeld_47, bI_or, sX19_isHeld_48, sX19_isHeld_49, sX19_isHeld_52, nn]
      exact ih (D ++ [t]) _ _ (by rw [hL, List.append_assoc]; rfl) (by rw [List.any_append, ← ha]; simp)
    rw [sX19_isHeld_4, sX19_isHeld_5, sX19_isHeld_6 (cr.kk k1 (by decide)), cr.rr k1 rfl, r6, sX19_isHeld_9 (cr.kk kl (by decide)), v_size cr kl, Kt_v, sX19_isHeld_12, len, if_neg (by rw [iI_le (by omega) (by omega) (by omega) (by omega)]; omega), sX19_isHeld_15, sX19_isHeld_16 (cr.kk k1 (by decide)), cr.rr k1 rfl, r6, sX19_isHeld_19, sX19_isHeld_20 (cr.kk kl (by decide)), v_get cr kl (by omega) (by rw [len]; omega), Kt_v, ge, sX19_isHeld_23 (by rw [cr.kk kt (by decide)]; decide), sX19_isHeld_26 (cr.kk kt (by decide)), cr.rr kt rfl, r10, sX19_isHeld_29, sX19_isHeld_30, sX19_isHeld_31, sX19_isHeld_32]
    by_cases z : U 29 t = -1
    · rw [show (optA (A 3) (U 29 t)) = none by rw [z]; rfl] at go ⊢
      have e : hlT U l t = false := by unfold hlT; simp [z]
      rw [e] at go
      rw [if_pos rfl, sX19_isHeld_46]
      exact go
    · obtain ⟨kb, i3⟩ := bf z
      rw [optA_s z] at go ⊢
      rw [if_neg (by simp), sX19_isHeld_35, sX19_isHeld_36 (cr.kk kb (by decide)), cr.ii kb rfl, i3, sX19_isHeld_39]
      by_cases x : isL U l (U 29 t) = true
      · have e : hlT U l t = false := by unfold hlT; simp [x]
        rw [e] at go
        rw [if_pos (by rw [bI_t x]; decide), sX19_isHeld_46]
        exact go
      · have e : hlT U l t = true := by unfold hlT; simp [x, z]
        rw [e] at go
        rw [if_neg (by rw [bI_f x]; decide), sX19_isHeld_42, sX19_isHeld_43]
        exact go
theorem c_held (j : JP w g U c l) (hs : As w U s) (e : U 20 s = 5 ∨ U 20 s = 6) (cr : CR h v) (gx : GX R A T w p0 v U) (jd : JD A w U c l v (uB w U s)) {k : Int} (hk : As w U k) (e7 : U 20 k = 7) (et : tgt U k = s) (q : Q (Sum.inl (some (vI (bI (hld U l k s = true))))) h) : Cl r 287 [vR (some (A 2 k))] h Q := by
  have pw := j.pw
  have kA := pw.1 k hk
  obtain ⟨h1, h2, h3⟩ := held_up pw j.2.1.2.2.2.1 j.1.1 hs e _ _ kA et
  obtain ⟨_, _, _, _, _, _, f7, _⟩ := gx.fs hk
  obtain ⟨bt, _, bk⟩ := f7 e7
  have tl := tTr_le (U := U) (U 22 k + 2).toNat (U 22 k)
  have b22 := kA.2
  have b40 := j.2.1.2.2.1.2.2.2.1
  have w0 := j.2.1.2.2.2
  rw [eX19_isHeld, sX19_isHeld_0, sX19_isHeld_1, sX19_isHeld_2, sX19_isHeld_3]
  refine held_l (U := U) (l := l) cr bk (by omega) (fun t ht => ?_) ?_ (tTr U (U 22 k + 2).toNat (U 22 k)) [] false none rfl rfl
  · obtain ⟨tA, t9, tu⟩ := h2 t ht
    obtain ⟨_, _, _, _, _, _, _, f9, _⟩ := gx.fs tA
    obtain ⟨k1, k2, k3, _⟩ := f9 t9
    refine ⟨k1, k3, fun z => ?_⟩
    have bd := bo29 j tA z
    refine ⟨gx.kb bd.1, (jd.1 _ bd.1 ?_).2⟩
    obtain ⟨d, d1, d2⟩ := tu
    refine ⟨d, d1, anc_tr ⟨1, bd.2.2, ?_⟩ d2⟩
    show U 22 (U 42 (U 29 t)) = U 22 t
    rw [bd.2.1]
  · have := h3 false
    rw [Bool.false_or] at this
    unfold hld at q
    rw [this] at q
    exact q
/-- the breaks of a loop -/
theorem lf_bl (j : JP w g U c l) (hs : As w U s) (e : U 20 s = 5 ∨ U 20 s = 6) (cr : CR h v) (gx : GX R A T w p0 v U) (jd : JD A w U c l v (uB w U s)) {l1 : Option am_V} {a0 : Bool} {L : List Int} (hL : stL U w (fun k => decide (U 20 k = 7) && decide (tgt U k = s)) = L) (q : Q (Sum.inl (some (vI (bI ((a0 || L.any (fun k => !hld U l k s)) = true))))) h) :
    ∀ (E D : List Int) (a : Bool), L = D ++ E → a = (a0 || D.any (fun k => !hld U l k s)) → Rn r 239 7 [some (vR (some (A 2 s))), l1, some (vI (bI (a = true))), some (vI (iI D.length))] [] h Q := by
  obtain ⟨k1, r7, kl, _, lv⟩ := gx.2.2.2.2.2.2.1 s hs e
  rw [hL] at lv
  have b19 := QV_b j.2.1.2.1 (f := 19) (c := 120) rfl rfl rfl w
  have ln := nodup_le (N := L) (w := w) (U := U) (by rw [← hL]; exact stL_nodup) (fun x hx => (stL_in.mp (by rw [hL]; exact hx)).1) b19
  have len : (vLs v (A 5 s)).length = L.length := by rw [lv, List.length_map]
  intro E
  induction E with
  | nil =>
    intro D a hD ha
    rw [List.append_nil] at hD
    have ll := congrArg List.length hD
    rw [sX18_left_7, sX18_left_8, sX18_left_9 (cr.kk k1 (by decide)), cr.rr k1 rfl, r7, sX18_left_12 (cr.kk kl (by decide)), v_size cr kl, Kt_v, sX18_left_15, len, if_pos (by rw [iI_le (by omega) (by omega) (by omega) (by omega), ll]; exact Int.le_refl _), sX18_left_49, sX18_left_50 am_fit4, ha, ← hD]
    exact q
  | cons t E ih =>
    intro D a hD ha
    have ll := congrArg List.length hD
    rw [List.length_append, List.length_cons] at ll
    obtain ⟨tA, t7⟩ := stL_in.mp (show t ∈ stL U w (fun k => decide (U 20 k = 7) && decide (tgt U k = s)) by rw [hL, hD]; simp)
    rw [Bool.and_eq_true, decide_eq_true_iff, decide_eq_true_iff] at t7
    obtain ⟨_, _, _, _, _, _, f7, _⟩ := gx.fs tA
    obtain ⟨bt, _, bk⟩ := f7 t7.1
    have kt := bk.1
    have ge : (vLs v (A 5 s)).getD ((D.length : Int)).toNat none = some (A 2 t) := by rw [lv, hD, Int.toNat_natCast]; exact map_getD _ D E t none
    have nn : iI ((D.length : Nat) : Int) + 1 = iI ((D ++ [t]).length : Nat) := by
      rw [List.length_append, List.length_singleton]
      exact iI_add _ 1
    have go : Rn r 239 41 [some (vR (some (A 2 s))), l1, some (vI (bI (a = true))), some (vI (iI D.length))] [vI (bI ((!hld U l t s) = true)), vI (bI (a = true))] h Q := by
      rw [sX18_left_41, bI_or, sX18_left_42, sX18_left_43, sX18_left_46, nn]
      exact ih (D ++ [t]) _ (by rw [hD, List.append_assoc]; rfl) (by rw [List.any_append, ← Bool.or_assoc, ← ha]; simp)
    rw [sX18_left_7, sX18_left_8, sX18_left_9 (cr.kk k1 (by decide)), cr.rr k1 rfl, r7, sX18_left_12 (cr.kk kl (by decide)), v_size cr kl, Kt_v, sX18_left_15, len, if_neg (by rw [iI_le (by omega) (by omega) (by omega) (by omega)]; omega), sX18_left_18, sX18_left_19, sX18_left_20 (cr.kk k1 (by decide)), cr.rr k1 rfl, r7, sX18_left_23, sX18_left_24 (cr.kk kl (by decide)), v_get cr kl (by omega) (by rw [len]; omega), Kt_v, ge, sX18_left_27 (by rw [cr.kk kt (by decide)]; decide), sX18_left_30 (cr.kk kt (by decide))]
    refine c_held j hs e cr gx jd tA t7.1 t7.2 ?_
    rw [Kt_v, sX18_left_33]
    cases x : hld U l t s with
    | true =>
      rw [x] at go
      rw [if_pos (by decide), sX18_left_40]
      exact go
    | false =>
      rw [x] at go
      rw [if_neg (by decide), sX18_left_36, sX18_left_37]
      exact go
theorem lf_34 (j : JP w g U c l) (hs : As w U s) (e : U 20 s = 5 ∨ U 20 s = 6) : JLf r 239 R A T w p0 U c l s := by
  intro h v Q cr gx jd q
  have b19 := QV_b j.2.1.2.1 (f := 19) (c := 120) rfl rfl rfl w
  obtain ⟨_, _, _, _, _, f5, _⟩ := gx.fs hs
  obtain ⟨k1, k2, _⟩ := f5 e
  rw [eX18_left, sX18_left_0, sX18_left_1 (cr.kk k1 (by decide)), cr.ii k1 rfl, k2, sX18_left_4, sX18_left_5, sX18_left_6]
  have d5 : bI (U 20 s = 5) = bI (decide (U 20 s = 5) = true) := by
    by_cases z : U 20 s = 5
    · rw [bI_t z, bI_t (decide_eq_true z)]
    · rw [bI_f z, bI_f (by simp [z])]
  rw [d5]
  refine lf_bl (a0 := decide (U 20 s = 5)) (L := stL U w (fun k => decide (U 20 k = 7) && decide (tgt U k = s))) j hs e cr gx jd rfl ?_ (stL U w (fun k => decide (U 20 k = 7) && decide (tgt U k = s))) [] _ rfl (by simp)
  have lv : lvs U w l s = (decide (U 20 s = 5) || (stL U w (fun k => decide (U 20 k = 7) && decide (tgt U k = s))).any (fun k => !hld U l k s)) := by
    unfold lvs
    rcases e with e | e
    · rw [e]
      rfl
    · rw [e, decide_eq_false (p := (6 : Int) = 5) (by decide), Bool.false_or]
      show tFor _ _ _ _ = _
      rw [Bool.eq_iff_iff, tFor_any (p := fun k => decide (U 20 (w * 120 + k) = 7) && decide (tgt U (w * 120 + k) = s) && !hld U l (w * 120 + k) s), List.any_eq_true]
      constructor
      · rintro (y | ⟨k, k1, k2, k3⟩)
        · cases y
        · rw [Bool.and_eq_true] at k3
          exact ⟨w * 120 + k, stL_in.mpr ⟨⟨by omega, by omega⟩, k3.1⟩, k3.2⟩
      · rintro ⟨k, k1, k2⟩
        obtain ⟨kA, k3⟩ := stL_in.mp k1
        have a1 := kA.1
        have a2 := kA.2
        refine Or.inr ⟨k - w * 120, by omega, by omega, ?_⟩
        rw [show w * 120 + (k - w * 120) = k by omega, Bool.and_eq_true]
        exact ⟨k3, k2⟩
  rw [lv] at q
  exact q
end JLO
