/-! PURE: blocks inside of blocks *-/
def ancN (U : tSt) : Nat → Int → Int → Prop
  | 0, k, b => k = b
  | n + 1, k, b => U 41 k ≠ 0 ∧ ancN U n (U 22 (U 42 k)) b
/-- block k is b, or inside of b -/
def anc (U : tSt) (k b : Int) : Prop := ∃ n, ancN U n k b
section ANC
variable {w b k s x : Int} {U : tSt} {g : Int → Int}
theorem anc_rf : anc U b b := ⟨0, rfl⟩
theorem ancN_g (zg : ZG w g U) (pw : PW w U) : ∀ (n : Nat) (k b : Int), Ab w U k → ancN U n k b → Ab w U b ∧ g k = g b + n := by
  intro n
  induction n with
  | zero => intro k b hk h; have e : k = b := h; rw [← e]; exact ⟨hk, by omega⟩
  | succ n ih =>
    intro k b hk h
    have p := par_ab pw hk h.1
    obtain ⟨h1, h2⟩ := ih _ _ p.2 h.2
    exact ⟨h1, by have := (zg k hk).2.2 h.1; omega⟩
theorem ancN_det : ∀ (n : Nat) (k b d : Int), ancN U n k b → ancN U n k d → b = d := by
  intro n
  induction n with
  | zero => intro k b d h1 h2; exact (h1 : k = b).symm.trans h2
  | succ n ih => intro k b d h1 h2; exact ih _ _ _ h1.2 h2.2
theorem anc_un (zg : ZG w g U) (pw : PW w U) {d : Int} (hk : Ab w U k) (h1 : anc U k b) (h2 : anc U k d) (e : g b = g d) : b = d := by
  obtain ⟨n, h1⟩ := h1
  obtain ⟨m, h2⟩ := h2
  have a := (ancN_g zg pw n k b hk h1).2
  have c := (ancN_g zg pw m k d hk h2).2
  have : n = m := by omega
  subst this
  exact ancN_det n k b d h1 h2
theorem ancN_up : ∀ (n : Nat) (k b : Int), ancN U n k b → U 41 b ≠ 0 → ancN U (n + 1) k (U 22 (U 42 b)) := by
  intro n
  induction n with
  | zero => intro k b h hb; have e : k = b := h; rw [e]; exact ⟨hb, rfl⟩
  | succ n ih => intro k b h hb; exact ⟨h.1, ih _ _ h.2 hb⟩
theorem anc_up (h : anc U k b) (hb : U 41 b ≠ 0) : anc U k (U 22 (U 42 b)) := by
  obtain ⟨n, h⟩ := h
  exact ⟨n + 1, ancN_up n k b h hb⟩
theorem ancN_tr : ∀ (n m : Nat) (k b d : Int), ancN U n k b → ancN U m b d → ancN U (n + m) k d := by
  intro n
  induction n with
  | zero => intro m k b d h1 h2; have e : k = b := h1; rw [e, Nat.zero_add]; exact h2
  | succ n ih =>
    intro m k b d h1 h2
    rw [show n + 1 + m = (n + m) + 1 by omega]
    exact ⟨h1.1, ih m _ _ _ h1.2 h2⟩
theorem anc_tr {d : Int} (h1 : anc U k b) (h2 : anc U b d) : anc U k d := by
  obtain ⟨n, h1⟩ := h1
  obtain ⟨m, h2⟩ := h2
  exact ⟨n + m, ancN_tr n m k b d h1 h2⟩
theorem ancN_top (pw : PW w U) : ∀ (n : Nat) (k b : Int), Ab w U k → ancN U (n + 1) k b → ∃ d, Ab w U d ∧ U 41 d ≠ 0 ∧ U 22 (U 42 d) = b ∧ ancN U n k d := by
  intro n
  induction n with
  | zero =>
    intro k b hk h
    exact ⟨k, hk, h.1, h.2, rfl⟩
  | succ n ih =>
    intro k b hk h
    obtain ⟨d, d1, d2, d3, d4⟩ := ih _ _ (par_ab pw hk h.1).2 h.2
    exact ⟨d, d1, d2, d3, h.1, d4⟩
/-- blocks inside of the blocks of a statement -/
def uB (w : Int) (U : tSt) (s k : Int) : Prop := ∃ d, bo w U s d ∧ anc U k d
theorem anc_top (pw : PW w U) (hk : Ab w U k) : anc U k b ↔ k = b ∨ ∃ s, As w U s ∧ U 22 s = b ∧ uB w U s k := by
  constructor
  · rintro ⟨n, h⟩
    cases n with
    | zero => exact Or.inl h
    | succ n =>
      obtain ⟨d, d1, d2, d3, d4⟩ := ancN_top pw n k b hk h
      exact Or.inr ⟨U 42 d, (par_ab pw d1 d2).1, d3, d, ⟨d1, rfl, d2⟩, n, d4⟩
  · rintro (e | ⟨s, s1, s2, d, ⟨d1, d2, d3⟩, d4⟩)
    · rw [e]; exact anc_rf
    · have := anc_up d4 d3
      rw [d2, s2] at this
      exact this
theorem bo_g (zg : ZG w g U) {d : Int} (h : bo w U s d) : g d = g (U 22 s) + 1 := by
  have := (zg d h.1).2.2 h.2.2
  rw [h.2.1] at this
  exact this
/-- a block lies in one block of one statement only -/
theorem uB_un (zg : ZG w g U) (pw : PW w U) {s' d d' : Int} (hk : Ab w U k) (h1 : bo w U s d) (h2 : anc U k d) (h3 : bo w U s' d') (h4 : anc U k d') (e : g (U 22 s) = g (U 22 s')) : d = d' ∧ s = s' := by
  have := anc_un zg pw hk h2 h4 (by rw [bo_g zg h1, bo_g zg h3, e])
  exact ⟨this, by rw [← h1.2.1, ← h3.2.1, this]⟩
theorem uB_no (zg : ZG w g U) (pw : PW w U) (hs : As w U s) : ¬ uB w U s (U 22 s) := fun ⟨d, h1, h2⟩ => by
  obtain ⟨n, h2⟩ := h2
  have a := (ancN_g zg pw n _ _ (pw.1 s hs) h2).2
  have := bo_g zg h1
  omega
/-- a list of statements -/
def JN (w : Int) (U : tSt) (N : List Int) (P : Int → Prop) : Prop := N.Nodup ∧ ∀ x, x ∈ N ↔ (As w U x ∧ P x)
theorem nodup_le {N : List Int} (h1 : N.Nodup) (h2 : ∀ x, x ∈ N → As w U x) (b19 : 0 ≤ U 19 w ∧ U 19 w ≤ 120) : N.length ≤ 120 := by
  have p : ((stL U w (fun _ => true)).filter (fun x => decide (x ∈ N))).Perm N := by
    refine (List.perm_ext_iff_of_nodup (List.Pairwise.filter _ stL_nodup) h1).mpr (fun x => ?_)
    rw [List.mem_filter, stL_in]
    constructor
    · rintro ⟨_, h⟩; simpa using h
    · intro h; exact ⟨⟨h2 x h, rfl⟩, by simpa using h⟩
  rw [← p.length_eq]
  exact Nat.le_trans (List.length_filter_le _ _) (stL_le b19)
end ANC
