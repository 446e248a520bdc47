/-! COMPONENT, 81: statement(175) and block(134) *-/
section STD
variable {r : Nat} {R : Nat → Nat} {w p0 : Int}
theorem tBeg_w {S : tSt} (bg : tBegins S = true) (n : S 51 0 ≠ 123) : S 50 0 = wDo ∨ S 50 0 = wCall ∨ S 50 0 = wThrow ∨ S 50 0 = wSet ∨ S 50 0 = wIf ∨ S 50 0 = wWhile ∨ S 50 0 = wLoop ∨ S 50 0 = wBreak ∨ S 50 0 = wReturn ∨ S 50 0 = wTry ∨ S 50 0 = wRun := by
  unfold tBegins at bg
  rw [decide_eq_false n, Bool.false_or, List.contains_iff_mem] at bg
  simp only [List.mem_cons, List.not_mem_nil, or_false] at bg
  omega
theorem Aex_5 {A : Nat → Int → Nat} {s : Int} {a l5 : Nat} : Aex A s a l5 5 s = l5 := by
  unfold Aex
  rw [if_neg (fun y => absurd y.2 (by decide)), if_pos ⟨rfl, rfl⟩]
theorem c_stmt (blc : BLC r R w p0) : STC (r + 1) R w p0 := by
  intro h v A T S U o Q cr hd ne hr q1 q2
  have hd' := hd
  obtain ⟨g, ⟨hP, pr, qv, w0⟩, ⟨d1, s52⟩, ar, ch⟩ := hd
  have n19 := hP.2.2.2.2.2.1
  refine st_head (if S 50 0 = wWhile ∨ S 50 0 = wLoop then 2 else if S 50 0 = wBreak ∨ S 50 0 = wTry then 4 else 1) cr hd' ne (fun bg nn h' v0 v' c' fm lv md cx => ?_) q2
  obtain ⟨e19, u20, _, _, _, u33, u30⟩ := tE0_v (w := w) (s := w * 120 + U 19 w) (b := S 56 (S 55 0 - 1)) (S := S) (U := U)
  obtain ⟨u27, u28, u29⟩ := tE0_w (w := w) (s := w * 120 + U 19 w) (b := S 56 (S 55 0 - 1)) (S := S) (U := U)
  have no : ∀ c, Ab w (tE0 w (w * 120 + U 19 w) (S 56 (S 55 0 - 1)) S U) c → tE0 w (w * 120 + U 19 w) (S 56 (S 55 0 - 1)) S U 42 c ≠ w * 120 + U 19 w := fun c hc => by
    have hc' : Ab w U c := ⟨hc.1, by have := hc.2; rw [tE0_o (by decide)] at this; exact this⟩
    rw [tE0_o (by decide)]
    rcases (pr.1.2.1 c hc').1 with ⟨_, y⟩ | ⟨_, y, _⟩
    · omega
    · have := y.2
      omega
  have ea : Aex A (w * 120 + U 19 w) (hN v0.1) (hN v0.1 + 1) 2 (w * 120 + U 19 w) = hN v0.1 := Aex_2
  have hr' : 9 - S 55 0 ≤ r := by omega
  have l8 : R 8 < hN v.1 := hK_lt g.2.2.2.2.2.1.1.2.1 (by decide)
  have FF : ∀ {u : vT} {kd : Nat}, Fw (fun c k => (c = hN v0.1 ∧ k ≤ 2) ∨ (c = R 8 ∧ k = 99)) u v' → hK u.1 (hN v0.1) = kd → kd ≠ 0 → hK v'.1 (hN v0.1) = kd ∧ ∀ j, 3 ≤ j → hI v'.1 (hN v0.1) j = hI u.1 (hN v0.1) j ∧ hR v'.1 (hN v0.1) j = hR u.1 (hN v0.1) j := fun {u kd} f k k0 => by
    refine ⟨f.kk k k0, fun j hj => ?_⟩
    have := f.ff (k := j) (hK_lt k k0) (fun y => by rcases y with y | y; omega; omega)
    exact ⟨this.1, this.2.2⟩
  have LL : ∀ {u : vT} {b : Nat}, Fw (fun c k => (c = hN v0.1 ∧ k ≤ 2) ∨ (c = R 8 ∧ k = 99)) u v' → hK u.1 b = 4 → hN v0.1 < b → hK v'.1 b = 4 ∧ vLs v' b = vLs u b := fun {u b} f k hb => ⟨f.kk k (by decide), (f.cc (hK_lt k (by decide)) (fun y => by rcases y with y | y; omega; omega)).1⟩
  have lbt : ∀ t, As w (tE0 w (w * 120 + U 19 w) (S 56 (S 55 0 - 1)) S U) t → tE0 w (w * 120 + U 19 w) (S 56 (S 55 0 - 1)) S U 20 t = 5 ∨ tE0 w (w * 120 + U 19 w) (S 56 (S 55 0 - 1)) S U 20 t = 6 → Aex A (w * 120 + U 19 w) (hN v0.1) (hN v0.1 + 1) 5 t ≠ Aex A (w * 120 + U 19 w) (hN v0.1) (hN v0.1 + 1) 5 (w * 120 + U 19 w) := fun t ht hl => by
    by_cases q : t = w * 120 + U 19 w
    · rw [q, u20] at hl
      omega
    · have ht' : As w U t := ⟨ht.1, by have := ht.2; rw [e19] at this; omega⟩
      have fu := tE0_fu (w := w) (s := w * 120 + U 19 w) (b := S 56 (S 55 0 - 1)) (S := S) (U := U) rfl
      rw [fu.fs ht' (by decide) (by decide) (by decide)] at hl
      have lb := g.2.2.2.2.2.2.2.2.2.2.2.1 t ht' hl
      have := hK_lt lb.2.2.1 (by decide)
      rw [Aex_5, Aex_o (Or.inl q)]
      omega
  by_cases e123 : S 51 0 = 123
  · have mdv : mdV v0 S = vnw v0 38 6 := by unfold mdV; rw [if_pos e123]
    rw [mdv] at fm
    obtain ⟨ka, _⟩ := FF fm nw_k (by decide)
    refine st_group blc hd' c' md cx rfl e19 u20 u33 u30 no ea lv ka hr' ?_ q1 q2
    unfold tStep
    rw [if_neg (by omega), if_neg ne]
    unfold tStmt tE0
    rw [if_pos ⟨bg, nn⟩, if_pos e123, up_up]
  · have mdv : mdV v0 S = mdO v0 (mdI (S 50 0)) := by unfold mdV; rw [if_neg e123]
    have sw := step_word d1 ne bg nn e123
    rw [mdv] at fm
    rcases tBeg_w bg e123 with x | x | x | x | x | x | x | x | x | x | x
    · rw [x] at fm sw
      have fm0 : Fw _ (mdO v0 0) v' := fm
      obtain ⟨k1, k2, k3⟩ := mdO_30 (v := v0) (x := 0) (by decide)
      obtain ⟨ka, kf⟩ := FF fm0 k1 (by decide)
      exact st_plain0 (k := 0) hd' c' md cx rfl e19 u20 u33 (by decide) ea ka (by rw [(kf 5 (by decide)).1]; exact k2) (by rw [(kf 6 (by decide)).2]; exact k3) (sw.trans sw_0.1) q1 q2
    · rw [x] at fm sw
      have fm0 : Fw _ (vnw v0 31 8) v' := fm
      obtain ⟨ka, kf⟩ := FF fm0 nw_k (by decide)
      exact st_call blc hd' c' md cx rfl e19 u20 u33 u27 ea lv ka (by rw [(kf 6 (by decide)).2]; exact nw_f.1) (by rw [(kf 7 (by decide)).2]; exact nw_f.1) hr' (fun n => sw.trans (sw_3.1 n)) (fun n => by rw [sw]; exact sw_3.2 n) q1 q2
    · rw [x] at fm sw
      have fm0 : Fw _ (vnw v0 32 7) v' := fm
      obtain ⟨ka, kf⟩ := FF fm0 nw_k (by decide)
      exact st_throw hd' c' md cx rfl e19 u20 u33 ea lv ka (by rw [(kf 5 (by decide)).2]; exact nw_f.1) (by rw [(kf 6 (by decide)).2]; exact nw_f.1) (by rw [sw]; exact sw_2 (Or.inl ⟨rfl, rfl⟩)) q1 q2
    · rw [x] at fm sw
      have fm0 : Fw _ (mdO v0 3) v' := fm
      obtain ⟨k1, k2, k3⟩ := mdO_30 (v := v0) (x := 3) (by decide)
      obtain ⟨ka, kf⟩ := FF fm0 k1 (by decide)
      exact st_set hd' c' md cx rfl e19 u20 u33 ea lv ka (by rw [(kf 5 (by decide)).1]; exact k2) (by rw [sw]; exact sw_2 (Or.inr ⟨rfl, rfl⟩)) q1 q2
    · rw [x] at fm sw
      have fm0 : Fw _ (vnw v0 33 7) v' := fm
      obtain ⟨ka, kf⟩ := FF fm0 nw_k (by decide)
      exact st_if blc hd' c' md cx rfl e19 u20 u33 u30 u28 no ea lv ka (by rw [(kf 6 (by decide)).2]; exact nw_f.1) hr' (sw.trans sw_1.1) q1 q2
    · rw [x] at fm sw
      have fm0 : Fw _ (mdO v0 5) v' := fm
      obtain ⟨k1, k2, k3, k4, k5⟩ := mdO_34 (v := v0) (x := 5) (by decide)
      obtain ⟨ka, kf⟩ := FF fm0 k1 (by decide)
      obtain ⟨m1, m2⟩ := LL fm0 k4 (by omega)
      refine st_loop (k := 5) blc hd' c' md cx rfl e19 u20 u33 u30 no ea lv ka (by decide) (by rw [(kf 5 (by decide)).1]; exact k2) ⟨?_, ?_, ?_, ?_, lbt⟩ hr' (sw.trans sw_1.2.2.1) q1 q2
      · rw [Aex_5, (kf 7 (by decide)).2]; exact k3
      · rw [Aex_5]; exact m1
      · rw [Aex_5, Tnw_n (by omega) m1, x]; rfl
      · rw [Aex_5, m2]; exact k5
    · rw [x] at fm sw
      have fm0 : Fw _ (mdO v0 6) v' := fm
      obtain ⟨k1, k2, k3, k4, k5⟩ := mdO_34 (v := v0) (x := 6) (by decide)
      obtain ⟨ka, kf⟩ := FF fm0 k1 (by decide)
      obtain ⟨m1, m2⟩ := LL fm0 k4 (by omega)
      refine st_loop (k := 6) blc hd' c' md cx rfl e19 u20 u33 u30 no ea lv ka (by decide) (by rw [(kf 5 (by decide)).1]; exact k2) ⟨?_, ?_, ?_, ?_, lbt⟩ hr' (sw.trans sw_1.2.2.2.1) q1 q2
      · rw [Aex_5, (kf 7 (by decide)).2]; exact k3
      · rw [Aex_5]; exact m1
      · rw [Aex_5, Tnw_n (by omega) m1, x]; rfl
      · rw [Aex_5, m2]; exact k5
    · rw [x] at fm sw
      have fm0 : Fw _ (mdO v0 7) v' := fm
      obtain ⟨k1, k2, k3, k4, k5⟩ := mdO_35 (v := v0)
      obtain ⟨ka, kf⟩ := FF fm0 k1 (by decide)
      obtain ⟨m1, m2⟩ := LL fm0 k4 (by omega)
      refine st_break (bt := hN v0.1 + 1) hd' c' md cx rfl e19 u20 u33 ea lv (by omega) ka ⟨ka, by rw [(kf 5 (by decide)).2]; exact k2, by rw [(kf 6 (by decide)).2]; exact k3, m1, by rw [m2]; exact k5⟩ ?_ (sw.trans sw_0.2.2) q1 q2
      rw [Tnw_n (by omega) m1, x]; rfl
    · rw [x] at fm sw
      have fm0 : Fw _ (mdO v0 8) v' := fm
      obtain ⟨k1, k2, k3⟩ := mdO_30 (v := v0) (x := 8) (by decide)
      obtain ⟨ka, kf⟩ := FF fm0 k1 (by decide)
      exact st_plain0 (k := 8) hd' c' md cx rfl e19 u20 u33 (by decide) ea ka (by rw [(kf 5 (by decide)).1]; exact k2) (by rw [(kf 6 (by decide)).2]; exact k3) (sw.trans sw_0.2.1) q1 q2
    · rw [x] at fm sw
      have fm0 : Fw _ (mdO v0 9) v' := fm
      obtain ⟨⟨k1, k2, k3, k4, k5, k6⟩, ⟨j1, j2, j3, j4⟩, ⟨i1, i2, i3, i4⟩⟩ := mdO_36 (v := v0)
      obtain ⟨ka, kf⟩ := FF fm0 k1 (by decide)
      obtain ⟨a1, b1⟩ := LL fm0 j1 (by omega)
      obtain ⟨a2, b2⟩ := LL fm0 j2 (by omega)
      obtain ⟨a3, b3⟩ := LL fm0 j3 (by omega)
      obtain ⟨a4, b4⟩ := LL fm0 j4 (by omega)
      have tk : ∀ b, hN v0.1 ≤ b → hK v'.1 b = 4 → Tnw v0 v' T (if S 50 0 = wWhile ∨ S 50 0 = wLoop then 2 else if S 50 0 = wBreak ∨ S 50 0 = wTry then 4 else 1) b = 4 := fun b hb e => by rw [Tnw_n hb e, x]; rfl
      exact st_try blc hd' c' md cx rfl e19 u20 u33 u30 u29 ea lv ka ⟨by rw [(kf 5 (by decide)).2]; exact k2, by rw [(kf 6 (by decide)).2]; exact k3, by rw [(kf 7 (by decide)).2]; exact k4, by rw [(kf 9 (by decide)).2]; exact k5, by rw [(kf 10 (by decide)).2]; exact k6⟩ ⟨a1, a2, a3, a4⟩ ⟨by rw [b1]; exact i1, by rw [b2]; exact i2, by rw [b3]; exact i3, by rw [b4]; exact i4⟩ ⟨tk _ (by omega) a1, tk _ (by omega) a2, tk _ (by omega) a3, tk _ (by omega) a4⟩ (by omega) (by omega) hr' (sw.trans sw_1.2.2.2.2) q1 q2
    · rw [x] at fm sw
      have fm0 : Fw _ (vFl (vnw v0 37 7) (hN v0.1) 6 1) v' := fm
      obtain ⟨ka, kf⟩ := FF fm0 (vFl_k nw_k (by decide)) (by decide)
      exact st_run blc hd' c' md cx rfl e19 u20 u33 u30 no ea lv ka hr' (sw.trans sw_1.2.1) q1 q2
/-- statements and blocks at every rank -/
theorem STC_all : ∀ r : Nat, STC r R w p0 := by
  intro r
  induction r with
  | zero =>
    intro h v A T S U o Q cr hd ne hr q1 q2
    have := hd.2.1.1.1.2.2.2.2.2.2.2
    omega
  | succ r ih => exact c_stmt (c_block ih)
theorem BLC_all (r : Nat) : BLC r R w p0 := c_block (STC_all r)
end STD
