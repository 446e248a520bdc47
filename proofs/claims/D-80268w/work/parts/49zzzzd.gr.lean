/-! COMPONENT, 24: final forms under more addresses *-/
/-- addresses and tags of what is old stay -/
def AE (w : Int) (U : tSt) (A A' : Nat → Int → Nat) (T T' : Nat → Nat) : Prop :=
  (∀ s, As w U s → A' 2 s = A 2 s ∧ A' 5 s = A 5 s) ∧ (∀ b, Ab w U b → A' 3 b = A 3 b) ∧ (∀ c, As w U (c / 4) → c % 4 < U 33 (c / 4) → A' 4 c = A 4 c) ∧ A' 0 = A 0 ∧ A' 1 = A 1 ∧ ∀ a, T a ≠ 0 → T a ≠ 4 → T' a = T a
section GRS
variable {w x b s c : Int} {U : tSt} {v : vT} {A A' : Nat → Int → Nat} {T T' : Nat → Nat} {oc : Int → Option Nat} {cl : Int → List (Option Nat)}
theorem tPO_As (p : PQ w U) (qv : QV U) (w0 : 0 ≤ w) : ∀ (d : Nat) (b : Int) (z : Bool), (b = -1 ∨ Ab w U b) → (tPO U x d b z).1 = -1 ∨ (As w U ((tPO U x d b z).1 / 4) ∧ (tPO U x d b z).1 % 4 < U 33 ((tPO U x d b z).1 / 4) ∧ 0 ≤ (tPO U x d b z).1) := by
  intro d
  induction d with
  | zero => intro b z _; exact Or.inl rfl
  | succ d ih =>
    intro b z hb
    rw [tPO]
    by_cases e : b = -1
    · rw [if_pos e]
      exact Or.inl rfl
    · have hb := hb.resolve_left e
      rw [if_neg e]
      obtain ⟨p1, _, _, p4⟩ := p.2.1 b hb
      by_cases r6 : U 41 b = 6 ∧ U 35 (4 * U 42 b + U 43 b) = x
      · rw [if_pos r6]
        have q4 := p4 r6.1
        have b33 := QV_b qv (f := 33) (c := 4) rfl rfl rfl (U 42 b)
        rcases p1 with ⟨q1, q2⟩ | ⟨q1, q2, q3⟩
        · omega
        · have e4 : (4 * U 42 b + U 43 b) / 4 = U 42 b := by omega
          have e5 : (4 * U 42 b + U 43 b) % 4 = U 43 b := by omega
          refine Or.inr ⟨?_, ?_, ?_⟩
          · show As w U ((4 * U 42 b + U 43 b) / 4)
            rw [e4]
            exact q2
          · show (4 * U 42 b + U 43 b) % 4 < U 33 ((4 * U 42 b + U 43 b) / 4)
            rw [e4, e5]
            exact q4.2
          · show 0 ≤ 4 * U 42 b + U 43 b
            have := q2.1
            omega
      · rw [if_neg r6]
        rcases p1 with ⟨q1, q2⟩ | ⟨q1, q2, q3⟩
        · rw [if_pos q2]
          exact ih _ _ (Or.inl rfl)
        · rw [if_neg (by have := q2.1; omega)]
          exact ih _ _ (Or.inr (p.1 _ q2).1)
theorem pO_As (p : PQ w U) (qv : QV U) (w0 : 0 ≤ w) (hb : Ab w U b) (h : (pO U x b).1 ≠ -1) : As w U ((pO U x b).1 / 4) ∧ (pO U x b).1 % 4 < U 33 ((pO U x b).1 / 4) ∧ 0 ≤ (pO U x b).1 :=
  (tPO_As p qv w0 _ _ _ (Or.inr hb)).resolve_left h
theorem tTg_As (p : PQ w U) : ∀ (d : Nat) (b : Int), Ab w U b → tTg U d b = -1 ∨ As w U (tTg U d b) := by
  intro d
  induction d with
  | zero => intro b _; exact Or.inl rfl
  | succ d ih =>
    intro b hb
    rw [tTg]
    obtain ⟨p1, _⟩ := p.2.1 b hb
    rcases p1 with ⟨q1, q2⟩ | ⟨q1, q2, q3⟩
    · rw [if_pos (Or.inl q1)]
      exact Or.inl rfl
    · split
      · exact Or.inl rfl
      · split
        · exact Or.inr q2
        · exact ih _ (p.1 _ q2).1
theorem tTr_As (p : PQ w U) : ∀ (d : Nat) (b : Int), Ab w U b → ∀ s, s ∈ tTr U d b → As w U s := by
  intro d
  induction d with
  | zero => intro b _ s hs; exact absurd hs (by simp [tTr])
  | succ d ih =>
    intro b hb s hs
    rw [tTr] at hs
    obtain ⟨p1, _⟩ := p.2.1 b hb
    rcases p1 with ⟨q1, q2⟩ | ⟨q1, q2, q3⟩
    · rw [if_pos (Or.inl q1)] at hs
      exact absurd hs (by simp)
    · split at hs
      · exact absurd hs (by simp)
      · split at hs
        · exact absurd hs (by simp)
        · rcases List.mem_append.mp hs with hs | hs
          · split at hs
            · rw [List.mem_singleton.mp hs]
              exact q2
            · exact absurd hs (by simp)
          · exact ih _ (p.1 _ q2).1 s hs
theorem optA_e {B B' : Int → Nat} {k : Int} (e : k ≠ -1 → B' k = B k) : optA B' k = optA B k := by
  unfold optA
  by_cases h : k = -1
  · rw [if_pos h, if_pos h]
  · rw [if_neg h, if_neg h, e h]
theorem FS_ae (ae : AE w U A A' T T') (p : PQ w U) (qv : QV U) (w0 : 0 ≤ w) (hs : As w U s) (x : FS v A T U w oc cl s) : FS v A' T' U w oc cl s := by
  obtain ⟨e2, e3, e4, e0, e1, et⟩ := ae
  obtain ⟨ab, _, _, _, u27, u28, u29, _⟩ := p.1 s hs
  have a2 := (e2 s hs).1
  have a27 : optA (A' 3) (U 27 s) = optA (A 3) (U 27 s) := optA_e (fun h => e3 _ (u27.resolve_left h))
  have a28 : optA (A' 3) (U 28 s) = optA (A 3) (U 28 s) := optA_e (fun h => e3 _ (u28.resolve_left h))
  have a29 : optA (A' 3) (U 29 s) = optA (A 3) (U 29 s) := optA_e (fun h => e3 _ (u29.resolve_left h))
  have s27 : U 27 s ≠ -1 → A' 3 (U 27 s) = A 3 (U 27 s) := fun h => e3 _ (u27.resolve_left h)
  have ap : optA (A' 4) (pO U (U 25 s) (U 22 s)).1 = optA (A 4) (pO U (U 25 s) (U 22 s)).1 := optA_e (fun h => e4 _ (pO_As p qv w0 ab h).1 (pO_As p qv w0 ab h).2.1)
  have ag : optA (A' 2) (tgt U s) = optA (A 2) (tgt U s) := optA_e (fun h => (e2 _ ((tTg_As p _ _ ab).resolve_left h)).1)
  have ar : (tTr U (U 22 s + 2).toNat (U 22 s)).map (fun k => some (A' 2 k)) = (tTr U (U 22 s + 2).toNat (U 22 s)).map (fun k => some (A 2 k)) := List.map_congr_left (fun k hk => by rw [(e2 k (tTr_As p _ _ ab k hk)).1])
  have b33 := QV_b qv (f := 33) (c := 4) rfl rfl rfl s
  have ac : rowL (A' 4) (4 * s) (U 33 s) = rowL (A 4) (4 * s) (U 33 s) := rowL_congr (fun k k0 k1 => e4 _ (by rw [show (4 * s + k) / 4 = s by omega]; exact hs) (by rw [show (4 * s + k) / 4 = s by omega]; omega))
  have tt : ∀ {l : Nat}, hK v.1 l = 4 → T l = 1 → T' l = 1 := fun _ t => by rw [et _ (by rw [t]; decide) (by rw [t]; decide)]; exact t
  obtain ⟨x0, x3, x1, x2, x4, x5, x7, x9, xa, xb, nb⟩ := x
  unfold FS
  rw [a2, a27, a28, a29, ap, ag, ar, ac, e0]
  refine ⟨x0, x3, x1, x2, fun e => ?_, fun e => ?_, fun e => ?_, fun e => ?_, fun e => ?_, fun e => ?_, nb⟩
  · rw [s27 (nb (by omega))]
    exact x4 e
  · rw [s27 (nb (by omega))]
    exact x5 e
  · obtain ⟨bt, t, y⟩ := x7 e
    exact ⟨bt, tt y.2.2.2.1 t, y⟩
  · obtain ⟨a, b, c, l5, l6, l7, l9, ⟨t5, t6, t7, t9⟩, ⟨k5, k6, k7, k9⟩, y⟩ := x9 e
    rw [s27 (nb (by omega))]
    exact ⟨a, b, c, l5, l6, l7, l9, ⟨tt k5 t5, tt k6 t6, by rw [et _ (by omega) (by omega)]; exact t7, tt k9 t9⟩, ⟨k5, k6, k7, k9⟩, y⟩
  · obtain ⟨a, b, l, c, d, y⟩ := xa e
    rw [s27 (nb (by omega))]
    exact ⟨a, b, l, c, tt y.1 d, y⟩
  · rw [s27 (nb (by omega))]
    exact xb e
theorem CF_ae (ae : AE w U A A' T T') (hc : As w U (c / 4)) (hr : c % 4 < U 33 (c / 4)) (x : CF v A T U w c) : CF v A' T' U w c := by
  obtain ⟨e2, e3, e4, e0, e1, et⟩ := ae
  obtain ⟨x1, x2, x3, x4, l, x5, x6, x7⟩ := x
  unfold CF
  rw [e4 c hc hr, (e2 _ hc).1, e0]
  exact ⟨x1, by rw [et _ (by rw [x2]; decide) (by rw [x2]; decide)]; exact x2, x3, x4, l, x5, by rw [et _ (by rw [x6]; decide) (by rw [x6]; decide)]; exact x6, x7⟩
theorem stL_As {p : Int → Bool} (h : s ∈ stL U w p) : As w U s := by
  unfold stL at h
  obtain ⟨i, hi, e⟩ := List.mem_map.mp (List.mem_filter.mp h).1
  have := List.mem_range.mp hi
  exact ⟨by omega, by omega⟩
theorem FB_ae (ae : AE w U A A' T T') (hb : Ab w U b) (x : FB v A T U w b) : FB v A' T' U w b := by
  obtain ⟨e2, e3, e4, e0, e1, et⟩ := ae
  obtain ⟨x1, x2, l, x3, x4, x5, x6⟩ := x
  unfold FB
  rw [e3 b hb]
  refine ⟨x1, x2, l, x3, x4, by rw [et _ (by rw [x5]; decide) (by rw [x5]; decide)]; exact x5, ?_⟩
  rw [x6]
  exact List.map_congr_left (fun k hk => by rw [(e2 k (stL_As hk)).1])
theorem LB_ae (ae : AE w U A A' T T') (hs : As w U s) (x : LB v A T U w s) : LB v A' T' U w s := by
  obtain ⟨e2, e3, e4, e0, e1, et⟩ := ae
  obtain ⟨x1, x2, x3, x4, x5⟩ := x
  unfold LB
  rw [(e2 s hs).1, (e2 s hs).2]
  refine ⟨x1, x2, x3, by rw [et _ (by rw [x4]; decide) (by rw [x4]; decide)]; exact x4, ?_⟩
  rw [x5]
  exact List.map_congr_left (fun k hk => by rw [(e2 k (stL_As hk)).1])
/-- one statement more -/
theorem stL_s {U' : tSt} {p p' : Int → Bool} (n0 : 0 ≤ U 19 w) (n1 : U' 19 w = U 19 w + 1) (e : ∀ k, As w U k → p' k = p k) : stL U' w p' = stL U w p ++ (if p' (w * 120 + U 19 w) = true then [w * 120 + U 19 w] else []) := by
  unfold stL
  rw [n1, show (U 19 w + 1).toNat = (U 19 w).toNat + 1 by omega, List.range_succ, List.map_append, List.filter_append]
  congr 1
  · apply List.filter_congr
    intro k hk
    obtain ⟨i, hi, e2⟩ := List.mem_map.mp hk
    have := List.mem_range.mp hi
    exact e k ⟨by omega, by omega⟩
  · show List.filter p' [w * 120 + (((U 19 w).toNat : Nat) : Int)] = _
    rw [show (((U 19 w).toNat : Nat) : Int) = U 19 w by omega, List.filter_cons]
    rfl
end GRS
