/-! PURE: what the twin finds out fulfils the equations *-/
section JPX
variable {w s : Int} {S U : tSt} {l l' : Int → Int} {g : Int → Int}
theorem last_in : ∀ (L : List Int), L.getLastD (-1) ≠ -1 → L.getLastD (-1) ∈ L := by
  intro L
  induction L with
  | nil => intro h; exact (h rfl).elim
  | cons a L ih =>
    intro h
    cases L with
    | nil => simp
    | cons b L =>
      have e : (a :: b :: L).getLastD (-1) = (b :: L).getLastD (-1) := rfl
      rw [e] at h ⊢
      exact List.mem_cons_of_mem _ (ih h)
theorem isL_cg (zd : ZD w U) (zh : ZH w U) (h : ∀ t, As w U t → s < t → l t = l' t) {b : Int} (hb : b = -1 ∨ (Ab w U b ∧ U 41 b ≠ 0 ∧ s ≤ U 42 b)) : isL U l b = isL U l' b := by
  unfold isL
  rcases hb with e | ⟨h1, h2, h3⟩
  · rw [e]; rfl
  · by_cases z : U 46 b = -1
    · rw [z]; rfl
    · have e := (zd b h1).2
      have m : U 46 b ∈ stB U w b := by
        rw [e]
        exact last_in _ (by rw [← e]; exact z)
      obtain ⟨a1, a2⟩ := stB_in.mp m
      have := (zh _ a1).2 (by rw [a2]; exact h2)
      rw [a2] at this
      rw [h _ a1 (by omega)]
theorem up_lt (pw : PW w U) (zh : ZH w U) {d : Int} (hd : bo w U s d) : ∀ (n : Nat) (k : Int), Ab w U k → ancN U n k d → U 41 k ≠ 0 ∧ s ≤ U 42 k := by
  intro n
  induction n with
  | zero =>
    intro k hk h
    have e : k = d := h
    rw [e]
    exact ⟨hd.2.2, by rw [hd.2.1]; exact Int.le_refl _⟩
  | succ n ih =>
    intro k hk h
    have o := par_ab pw hk h.1
    obtain ⟨i1, i2⟩ := ih _ o.2 h.2
    have := (zh _ o.1).2 i1
    exact ⟨h.1, by omega⟩
theorem uB_lt (pw : PW w U) (zh : ZH w U) {t : Int} (ht : As w U t) (hu : uB w U s (U 22 t)) : s < t := by
  obtain ⟨d, d1, n, d2⟩ := hu
  obtain ⟨i1, i2⟩ := up_lt pw zh d1 n _ (pw.1 t ht) d2
  have := (zh t ht).2 i1
  omega
theorem lvs_cg (za : ZA w U) (zb : ZB w U) (zd : ZD w U) (zh : ZH w U) (pw : PW w U) (w0 : 0 ≤ w) (hs : As w U s) (h : ∀ t, As w U t → s < t → l t = l' t) : lvs U w l s = lvs U w l' s := by
  have cg : ∀ b, (b ≠ -1 → bo w U s b) → isL U l b = isL U l' b := fun b hb => by
    by_cases e : b = -1
    · exact isL_cg zd zh h (Or.inl e)
    · obtain ⟨h1, h2, h3⟩ := hb e
      exact isL_cg zd zh h (Or.inr ⟨h1, h3, by omega⟩)
  have c27 := cg (U 27 s) (fun z => ((zb s hs).1 z).1)
  have c28 := cg (U 28 s) (fun z => ((zb s hs).2.1 z).1)
  have c29 := cg (U 29 s) (fun z => ((zb s hs).2.2.1 z).1)
  unfold lvs
  rw [c27, c28, c29]
  by_cases h2 : U 20 s = 2 ∨ U 20 s = 7 ∨ U 20 s = 8
  · rw [if_pos h2, if_pos h2]
  · rw [if_neg h2, if_neg h2]
    by_cases h4 : U 20 s = 4
    · rw [if_pos h4, if_pos h4]
    · rw [if_neg h4, if_neg h4]
      by_cases h6 : U 20 s = 6
      · rw [if_pos h6, if_pos h6]
        refine tFor_cg _ _ _ (fun k z k0 k1 => ?_)
        by_cases e : U 20 (w * 120 + k) = 7 ∧ tgt U (w * 120 + k) = s
        · have kA : As w U (w * 120 + k) := ⟨by omega, by omega⟩
          have hu := held_up (l := l) pw w0 za hs (Or.inr h6) _ _ (pw.1 _ kA) e.2
          have hu' := held_up (l := l') pw w0 za hs (Or.inr h6) _ _ (pw.1 _ kA) e.2
          have q : hld U l (w * 120 + k) s = hld U l' (w * 120 + k) s := by
            unfold hld
            rw [hu.2.2, hu'.2.2]
            congr 1
            have : ∀ (L : List Int), (∀ t, t ∈ L → hlT U l t = hlT U l' t) → L.any (hlT U l) = L.any (hlT U l') := by
              intro L
              induction L with
              | nil => intro _; rfl
              | cons a L ih =>
                intro hh
                rw [List.any_cons, List.any_cons, hh a List.mem_cons_self, ih (fun t ht => hh t (List.mem_cons_of_mem _ ht))]
            refine this _ (fun t ht => ?_)
            obtain ⟨tA, t9, tu⟩ := hu.2.1 t ht
            have lt := uB_lt pw zh tA tu
            unfold hlT
            by_cases y : U 29 t = -1
            · rw [decide_eq_false (fun z => z y)]; rfl
            · obtain ⟨b1, b2, b3⟩ := ((zb t tA).2.2.1 y).1
              rw [isL_cg zd zh h (Or.inr ⟨b1, b3, by omega⟩)]
          rw [q]
        · have : (decide (U 20 (w * 120 + k) = 7) && decide (tgt U (w * 120 + k) = s)) = false := by
            rw [Bool.and_eq_false_iff, decide_eq_false_iff_not, decide_eq_false_iff_not]
            by_cases y : U 20 (w * 120 + k) = 7
            · exact Or.inr (fun t => e ⟨y, t⟩)
            · exact Or.inl y
          rw [this]
          rfl
      · rw [if_neg h6, if_neg h6]
        by_cases h9 : U 20 s = 9
        · rw [if_pos h9, if_pos h9]
          congr 1
          refine tFor_cg _ _ _ (fun k z k0 k1 => ?_)
          rw [cg (U 34 (4 * s + k)) (fun _ => ((zb s hs).2.2.2 k (by omega) (by omega)).1)]
        · rw [if_neg h9, if_neg h9]
theorem up_ne2 {f : Nat} {j x i : Int} (h : i ≠ j) : up S f j x f i = S f i := by
  unfold up
  rw [if_neg (fun y => h y.2)]
theorem tLeft_fix (za : ZA w U) (zb : ZB w U) (zd : ZD w U) (zh : ZH w U) (pw : PW w U) (w0 : 0 ≤ w) : ∀ (d : Nat) (S : tSt), (d : Int) ≤ U 19 w → (∀ i : Nat, d ≤ i → tLeft U w d S 59 (w * 120 + i) = S 59 (w * 120 + i)) ∧ ∀ i : Nat, i < d → tLeft U w d S 59 (w * 120 + i) = if lvs U w (tLeft U w d S 59) (w * 120 + i) = true then 1 else 0 := by
  intro d
  induction d with
  | zero => intro S _; exact ⟨fun i _ => rfl, fun i hi => by omega⟩
  | succ d ih =>
    intro S hd
    rw [tLeft]
    obtain ⟨i1, i2⟩ := ih (up (up S 59 (w * 120 + d) (if lvs U w (S 59) (w * 120 + d) = true then 1 else 0)) 58 (w * 120 + d) 0) (by omega)
    have s1 : ∀ x : Int, up (up S 59 (w * 120 + d) (if lvs U w (S 59) (w * 120 + d) = true then 1 else 0)) 58 (w * 120 + d) 0 59 x = if x = w * 120 + d then (if lvs U w (S 59) (w * 120 + d) = true then 1 else 0) else S 59 x := fun x => by
      rw [up_n (by decide)]
      by_cases e : x = w * 120 + d
      · rw [if_pos e, e, up_s]
      · rw [if_neg e, up_ne2 e]
    generalize up (up S 59 (w * 120 + d) (if lvs U w (S 59) (w * 120 + d) = true then 1 else 0)) 58 (w * 120 + d) 0 = S1 at *
    refine ⟨fun i hi => ?_, fun i hi => ?_⟩
    · rw [i1 i (by omega), s1, if_neg (show ¬ (w * 120 + (i : Int) = w * 120 + (d : Int)) by omega)]
    · by_cases e : i = d
      · subst e
        rw [i1 i (Nat.le_refl _), s1, if_pos rfl]
        have : lvs U w (S 59) (w * 120 + (i : Int)) = lvs U w (tLeft U w i S1 59) (w * 120 + (i : Int)) := by
          refine lvs_cg za zb zd zh pw w0 ⟨by omega, by omega⟩ (fun t ht lt => ?_)
          have a1 := ht.1
          have := i1 (t - w * 120).toNat (by omega)
          rw [show w * 120 + (((t - w * 120).toNat : Nat) : Int) = t by omega, s1, if_neg (show ¬ (t = w * 120 + (i : Int)) by omega)] at this
          exact this.symm
        rw [this]
      · exact i2 i (by omega)
/-- all that judging wants to know -/
theorem JP_ex (py : PY w S U) (zh : ZH w U) (pq : PQ w U) (qv : QV U) (qw : QW w U) (w0 : 0 ≤ w ∧ w ≤ 1) (s49 : S 49 0 ≤ 2000) {S0 : tSt} (qa : QA S0) : ∃ (g : Int → Int) (k : Nat), tStops U w (U 19 w).toNat k (tLeft U w (U 19 w).toNat S0) ∧ JP w g U (tJdg U w k S0 58) (tJdg U w k S0 59) := by
  obtain ⟨pz, _, zf⟩ := py
  obtain ⟨za, zb, zc, zd, g, ze⟩ := id pz
  have pw := pq.pw
  have b19 := QV_b qv (f := 19) (c := 120) rfl rfl rfl w
  obtain ⟨ρ, sd⟩ := Sdep_ex (l := (tLeft U w (U 19 w).toNat S0) 59) pz pq qv w0.1
  obtain ⟨M, hM⟩ : ∃ M : Nat, ∀ e, e < (U 19 w).toNat → ρ e < M := by
    have : ∀ n : Nat, ∃ M : Nat, ∀ e, e < n → ρ e < M := by
      intro n
      induction n with
      | zero => exact ⟨0, fun e he => by omega⟩
      | succ n ih =>
        obtain ⟨M, hM⟩ := ih
        refine ⟨M + ρ n + 1, fun e he => ?_⟩
        by_cases q : e = n
        · rw [q]; omega
        · have := hM e (by omega); omega
    exact this _
  have sf0 : Sfix U w (U 19 w).toNat ρ 0 (tLeft U w (U 19 w).toNat S0) := fun e _ h => by omega
  have st := tStops_rank sd M 0 _ rfl sf0 (fun e he => by have := hM e he; omega)
  have fx := tSwps_fix sd M 0 _ rfl sf0 (fun e he => by have := hM e he; omega)
  have e59 : tJdg U w (M + 1) S0 59 = (tLeft U w (U 19 w).toNat S0) 59 := tSwps_o 59 (by decide) _ _ _
  have qaJ : QA (tJdg U w (M + 1) S0) := tSwps_QA qw _ (by omega) _ _ (tLeft_QA _ _ qa)
  refine ⟨g, M + 1, st, ⟨za, zb, zc, zd, ze.1⟩, ⟨pq, qv, qw, w0.1, w0.2, zh⟩, fun s hs => ?_, zf.2, fun b hb => ?_⟩
  · have a1 := hs.1
    have a2 := hs.2
    have es : s = w * 120 + (((s - w * 120).toNat : Nat) : Int) := by omega
    refine ⟨(qaJ s).1, ?_, ?_⟩
    · have := fx (s - w * 120).toNat (by omega) (by have := hM (s - w * 120).toNat (by omega); omega)
      rw [← es] at this
      exact this
    · rw [e59]
      have := (tLeft_fix za zb zd zh pw w0.1 (U 19 w).toNat S0 (by omega)).2 (s - w * 120).toNat (by omega)
      rw [← es] at this
      constructor
      · intro y
        rw [this] at y
        by_cases q : lvs U w (tLeft U w (U 19 w).toNat S0 59) s = true
        · exact q
        · rw [if_neg q] at y; exact (y rfl).elim
      · intro y
        rw [this, if_pos y]
        decide
  · have := zf.1 b hb
    omega
end JPX
