/-! TREES as functions: K key, P parent, L, R children, lo, hi ranges; printed by gen_tree.py *-/
def fu {α : Type} (f : Nat → α) (x : Nat) (y : α) : Nat → α := fun z => if z = x then y else f z
def tR (B : Nat → Prop) (r : Nat) (K : Nat → Int) (P L R : Nat → Option Nat) (lo hi : Nat → Int) : Prop :=
  B r ∧ P r = none ∧ (∀ x, B x → lo r < K x ∧ K x < hi r) ∧ (∀ x, B x → lo x < K x ∧ K x < hi x) ∧
  (∀ x y, B x → L x = some y → B y ∧ P y = some x ∧ lo y = lo x ∧ hi y = K x) ∧
  (∀ x y, B x → R x = some y → B y ∧ P y = some x ∧ lo y = K x ∧ hi y = hi x) ∧
  (∀ y, B y → y = r ∨ ∃ x, B x ∧ P y = some x ∧ (L x = some y ∨ R x = some y))
section TRE
variable {B : Nat → Prop} {r p q : Nat} {K : Nat → Int} {P L R : Nat → Option Nat} {lo hi : Nat → Int}
theorem tR.lf (t : tR B r K P L R lo hi) {x y : Nat} (hx : B x) (e : L x = some y) : B y ∧ P y = some x ∧ lo y = lo x ∧ hi y = K x := t.2.2.2.2.1 x y hx e
theorem tR.rt (t : tR B r K P L R lo hi) {x y : Nat} (hx : B x) (e : R x = some y) : B y ∧ P y = some x ∧ lo y = K x ∧ hi y = hi x := t.2.2.2.2.2.1 x y hx e
theorem tR.top (t : tR B r K P L R lo hi) {x : Nat} (hx : B x) (e : P x = none) : x = r := by
  rcases t.2.2.2.2.2.2 x hx with z | ⟨y, _, z, _⟩
  · exact z
  · rw [e] at z; cases z
theorem tR.up (t : tR B r K P L R lo hi) {x y : Nat} (hx : B x) (e : P x = some y) : B y ∧ (L y = some x ∨ R y = some x) := by
  rcases t.2.2.2.2.2.2 x hx with z | ⟨w, z1, z2, z3⟩
  · rw [z, t.2.1] at e; cases e
  · rw [e] at z2; cases z2; exact ⟨z1, z3⟩
theorem rotL_nn (t : tR B r K P L R lo hi) (hp : B p) (hq : R p = some q) (pp : P p = none) (ll : L q = none) :
    tR B q K (fu (fu P q none) p (some q)) (fu L q (some p)) (fu R p none) (fu lo q (lo p)) (fu hi p (K q)) := by
  have q0 := t.rt hp hq
  have q1 := t.2.2.2.1 p hp
  have q2 := t.2.2.2.1 q q0.1
  have q3 : q ≠ p := by rintro rfl; omega
  have pr : p = r := t.top hp pp
  obtain ⟨t1, t2, t3, t4, t5, t6, t7⟩ := t
  unfold tR
  simp only [fu]
  refine ⟨?_, ?_, ?_, ?_, ?_, ?_, ?_⟩
  · grind
  · grind
  · intro x hx; have := t3 x hx; grind
  · intro x hx; have := t4 x hx; have := t3 x hx; grind
  · intro x y hx e; have := t5 x y hx; have := t4 x hx; grind
  · intro x y hx e; have := t6 x y hx; have := t4 x hx; grind
  · intro y hy
    by_cases yp : y = p
    · rw [yp]
      refine Or.inr ⟨q, q0.1, ?_, ?_⟩ <;> clear t3 t4 t5 t6 t7 <;> grind
    by_cases yq : y = q
    · exact Or.inl yq
    rcases t7 y hy with z0 | ⟨x, z1, z2, z3⟩
    · exact absurd (z0.trans pr.symm) yp
    · refine Or.inr ⟨x, z1, ?_, ?_⟩ <;> clear t3 t4 t5 t6 t7 <;> grind
theorem rotL_ns {z : Nat} (t : tR B r K P L R lo hi) (hp : B p) (hq : R p = some q) (pp : P p = none) (ll : L q = some z) :
    tR B q K (fu (fu (fu P z (some p)) q none) p (some q)) (fu L q (some p)) (fu R p (some z)) (fu lo q (lo p)) (fu hi p (K q)) := by
  have q0 := t.rt hp hq
  have q1 := t.2.2.2.1 p hp
  have q2 := t.2.2.2.1 q q0.1
  have q3 : q ≠ p := by rintro rfl; omega
  have pr : p = r := t.top hp pp
  have w0 := t.lf q0.1 ll
  have w1 := t.2.2.2.1 z w0.1
  have w2 : z ≠ p := by rintro rfl; omega
  have w3 : z ≠ q := by rintro rfl; omega
  obtain ⟨t1, t2, t3, t4, t5, t6, t7⟩ := t
  unfold tR
  simp only [fu]
  refine ⟨?_, ?_, ?_, ?_, ?_, ?_, ?_⟩
  · grind
  · grind
  · intro x hx; have := t3 x hx; grind
  · intro x hx; have := t4 x hx; have := t3 x hx; grind
  · intro x y hx e; have := t5 x y hx; have := t4 x hx; grind
  · intro x y hx e; have := t6 x y hx; have := t4 x hx; grind
  · intro y hy
    by_cases yp : y = p
    · rw [yp]
      refine Or.inr ⟨q, q0.1, ?_, ?_⟩ <;> clear t3 t4 t5 t6 t7 <;> grind
    by_cases yq : y = q
    · exact Or.inl yq
    by_cases yz : y = z
    · rw [yz]
      refine Or.inr ⟨p, hp, ?_, ?_⟩ <;> clear t3 t4 t5 t6 t7 <;> grind
    rcases t7 y hy with z0 | ⟨x, z1, z2, z3⟩
    · exact absurd (z0.trans pr.symm) yp
    · refine Or.inr ⟨x, z1, ?_, ?_⟩ <;> clear t3 t4 t5 t6 t7 <;> grind
theorem rotL_ln {s : Nat} (t : tR B r K P L R lo hi) (hp : B p) (hq : R p = some q) (pp : P p = some s) (sl : L s = some p) (ll : L q = none) :
    tR B r K (fu (fu P q (some s)) p (some q)) (fu (fu L s (some q)) q (some p)) (fu R p none) (fu lo q (lo p)) (fu hi p (K q)) := by
  have q0 := t.rt hp hq
  have q1 := t.2.2.2.1 p hp
  have q2 := t.2.2.2.1 q q0.1
  have q3 : q ≠ p := by rintro rfl; omega
  have s0 := t.up hp pp
  have s1 := t.2.2.2.1 s s0.1
  have s2 : p ≠ r := by rintro rfl; rw [t.2.1] at pp; cases pp
  have s3 := t.lf s0.1 sl
  have s4 : s ≠ p := by rintro rfl; omega
  have s5 : s ≠ q := by rintro rfl; omega
  obtain ⟨t1, t2, t3, t4, t5, t6, t7⟩ := t
  unfold tR
  simp only [fu]
  refine ⟨?_, ?_, ?_, ?_, ?_, ?_, ?_⟩
  · grind
  · grind
  · intro x hx; have := t3 x hx; grind
  · intro x hx; have := t4 x hx; have := t3 x hx; grind
  · intro x y hx e; have := t5 x y hx; have := t4 x hx; grind
  · intro x y hx e; have := t6 x y hx; have := t4 x hx; grind
  · intro y hy
    by_cases yp : y = p
    · rw [yp]
      refine Or.inr ⟨q, q0.1, ?_, ?_⟩ <;> clear t3 t4 t5 t6 t7 <;> grind
    by_cases yq : y = q
    · rw [yq]
      refine Or.inr ⟨s, s0.1, ?_, ?_⟩ <;> clear t3 t4 t5 t6 t7 <;> grind
    rcases t7 y hy with z0 | ⟨x, z1, z2, z3⟩
    · exact Or.inl z0
    · refine Or.inr ⟨x, z1, ?_, ?_⟩ <;> clear t3 t4 t5 t6 t7 <;> grind
theorem rotL_ls {z : Nat} {s : Nat} (t : tR B r K P L R lo hi) (hp : B p) (hq : R p = some q) (pp : P p = some s) (sl : L s = some p) (ll : L q = some z) :
    tR B r K (fu (fu (fu P z (some p)) q (some s)) p (some q)) (fu (fu L s (some q)) q (some p)) (fu R p (some z)) (fu lo q (lo p)) (fu hi p (K q)) := by
  have q0 := t.rt hp hq
  have q1 := t.2.2.2.1 p hp
  have q2 := t.2.2.2.1 q q0.1
  have q3 : q ≠ p := by rintro rfl; omega
  have s0 := t.up hp pp
  have s1 := t.2.2.2.1 s s0.1
  have s2 : p ≠ r := by rintro rfl; rw [t.2.1] at pp; cases pp
  have s3 := t.lf s0.1 sl
  have s4 : s ≠ p := by rintro rfl; omega
  have s5 : s ≠ q := by rintro rfl; omega
  have w0 := t.lf q0.1 ll
  have w1 := t.2.2.2.1 z w0.1
  have w2 : z ≠ p := by rintro rfl; omega
  have w3 : z ≠ q := by rintro rfl; omega
  obtain ⟨t1, t2, t3, t4, t5, t6, t7⟩ := t
  unfold tR
  simp only [fu]
  refine ⟨?_, ?_, ?_, ?_, ?_, ?_, ?_⟩
  · grind
  · grind
  · intro x hx; have := t3 x hx; grind
  · intro x hx; have := t4 x hx; have := t3 x hx; grind
  · intro x y hx e; have := t5 x y hx; have := t4 x hx; grind
  · intro x y hx e; have := t6 x y hx; have := t4 x hx; grind
  · intro y hy
    by_cases yp : y = p
    · rw [yp]
      refine Or.inr ⟨q, q0.1, ?_, ?_⟩ <;> clear t3 t4 t5 t6 t7 <;> grind
    by_cases yq : y = q
    · rw [yq]
      refine Or.inr ⟨s, s0.1, ?_, ?_⟩ <;> clear t3 t4 t5 t6 t7 <;> grind
    by_cases yz : y = z
    · rw [yz]
      refine Or.inr ⟨p, hp, ?_, ?_⟩ <;> clear t3 t4 t5 t6 t7 <;> grind
    rcases t7 y hy with z0 | ⟨x, z1, z2, z3⟩
    · exact Or.inl z0
    · refine Or.inr ⟨x, z1, ?_, ?_⟩ <;> clear t3 t4 t5 t6 t7 <;> grind
theorem rotL_rn {s : Nat} (t : tR B r K P L R lo hi) (hp : B p) (hq : R p = some q) (pp : P p = some s) (sl : R s = some p) (ll : L q = none) :
    tR B r K (fu (fu P q (some s)) p (some q)) (fu L q (some p)) (fu (fu R p none) s (some q)) (fu lo q (lo p)) (fu hi p (K q)) := by
  have q0 := t.rt hp hq
  have q1 := t.2.2.2.1 p hp
  have q2 := t.2.2.2.1 q q0.1
  have q3 : q ≠ p := by rintro rfl; omega
  have s0 := t.up hp pp
  have s1 := t.2.2.2.1 s s0.1
  have s2 : p ≠ r := by rintro rfl; rw [t.2.1] at pp; cases pp
  have s3 := t.rt s0.1 sl
  have s4 : s ≠ p := by rintro rfl; omega
  have s5 : s ≠ q := by rintro rfl; omega
  obtain ⟨t1, t2, t3, t4, t5, t6, t7⟩ := t
  unfold tR
  simp only [fu]
  refine ⟨?_, ?_, ?_, ?_, ?_, ?_, ?_⟩
  · grind
  · grind
  · intro x hx; have := t3 x hx; grind
  · intro x hx; have := t4 x hx; have := t3 x hx; grind
  · intro x y hx e; have := t5 x y hx; have := t4 x hx; grind
  · intro x y hx e; have := t6 x y hx; have := t4 x hx; grind
  · intro y hy
    by_cases yp : y = p
    · rw [yp]
      refine Or.inr ⟨q, q0.1, ?_, ?_⟩ <;> clear t3 t4 t5 t6 t7 <;> grind
    by_cases yq : y = q
    · rw [yq]
      refine Or.inr ⟨s, s0.1, ?_, ?_⟩ <;> clear t3 t4 t5 t6 t7 <;> grind
    rcases t7 y hy with z0 | ⟨x, z1, z2, z3⟩
    · exact Or.inl z0
    · refine Or.inr ⟨x, z1, ?_, ?_⟩ <;> clear t3 t4 t5 t6 t7 <;> grind
theorem rotL_rs {z : Nat} {s : Nat} (t : tR B r K P L R lo hi) (hp : B p) (hq : R p = some q) (pp : P p = some s) (sl : R s = some p) (ll : L q = some z) :
    tR B r K (fu (fu (fu P z (some p)) q (some s)) p (some q)) (fu L q (some p)) (fu (fu R p (some z)) s (some q)) (fu lo q (lo p)) (fu hi p (K q)) := by
  have q0 := t.rt hp hq
  have q1 := t.2.2.2.1 p hp
  have q2 := t.2.2.2.1 q q0.1
  have q3 : q ≠ p := by rintro rfl; omega
  have s0 := t.up hp pp
  have s1 := t.2.2.2.1 s s0.1
  have s2 : p ≠ r := by rintro rfl; rw [t.2.1] at pp; cases pp
  have s3 := t.rt s0.1 sl
  have s4 : s ≠ p := by rintro rfl; omega
  have s5 : s ≠ q := by rintro rfl; omega
  have w0 := t.lf q0.1 ll
  have w1 := t.2.2.2.1 z w0.1
  have w2 : z ≠ p := by rintro rfl; omega
  have w3 : z ≠ q := by rintro rfl; omega
  obtain ⟨t1, t2, t3, t4, t5, t6, t7⟩ := t
  unfold tR
  simp only [fu]
  refine ⟨?_, ?_, ?_, ?_, ?_, ?_, ?_⟩
  · grind
  · grind
  · intro x hx; have := t3 x hx; grind
  · intro x hx; have := t4 x hx; have := t3 x hx; grind
  · intro x y hx e; have := t5 x y hx; have := t4 x hx; grind
  · intro x y hx e; have := t6 x y hx; have := t4 x hx; grind
  · intro y hy
    by_cases yp : y = p
    · rw [yp]
      refine Or.inr ⟨q, q0.1, ?_, ?_⟩ <;> clear t3 t4 t5 t6 t7 <;> grind
    by_cases yq : y = q
    · rw [yq]
      refine Or.inr ⟨s, s0.1, ?_, ?_⟩ <;> clear t3 t4 t5 t6 t7 <;> grind
    by_cases yz : y = z
    · rw [yz]
      refine Or.inr ⟨p, hp, ?_, ?_⟩ <;> clear t3 t4 t5 t6 t7 <;> grind
    rcases t7 y hy with z0 | ⟨x, z1, z2, z3⟩
    · exact Or.inl z0
    · refine Or.inr ⟨x, z1, ?_, ?_⟩ <;> clear t3 t4 t5 t6 t7 <;> grind
theorem rotR_nn (t : tR B r K P L R lo hi) (hp : B p) (hq : L p = some q) (pp : P p = none) (ll : R q = none) :
    tR B q K (fu (fu P q none) p (some q)) (fu L p none) (fu R q (some p)) (fu lo p (K q)) (fu hi q (hi p)) := by
  have q0 := t.lf hp hq
  have q1 := t.2.2.2.1 p hp
  have q2 := t.2.2.2.1 q q0.1
  have q3 : q ≠ p := by rintro rfl; omega
  have pr : p = r := t.top hp pp
  obtain ⟨t1, t2, t3, t4, t5, t6, t7⟩ := t
  unfold tR
  simp only [fu]
  refine ⟨?_, ?_, ?_, ?_, ?_, ?_, ?_⟩
  · grind
  · grind
  · intro x hx; have := t3 x hx; grind
  · intro x hx; have := t4 x hx; have := t3 x hx; grind
  · intro x y hx e; have := t5 x y hx; have := t4 x hx; grind
  · intro x y hx e; have := t6 x y hx; have := t4 x hx; grind
  · intro y hy
    by_cases yp : y = p
    · rw [yp]
      refine Or.inr ⟨q, q0.1, ?_, ?_⟩ <;> clear t3 t4 t5 t6 t7 <;> grind
    by_cases yq : y = q
    · exact Or.inl yq
    rcases t7 y hy with z0 | ⟨x, z1, z2, z3⟩
    · exact absurd (z0.trans pr.symm) yp
    · refine Or.inr ⟨x, z1, ?_, ?_⟩ <;> clear t3 t4 t5 t6 t7 <;> grind
theorem rotR_ns {z : Nat} (t : tR B r K P L R lo hi) (hp : B p) (hq : L p = some q) (pp : P p = none) (ll : R q = some z) :
    tR B q K (fu (fu (fu P z (some p)) q none) p (some q)) (fu L p (some z)) (fu R q (some p)) (fu lo p (K q)) (fu hi q (hi p)) := by
  have q0 := t.lf hp hq
  have q1 := t.2.2.2.1 p hp
  have q2 := t.2.2.2.1 q q0.1
  have q3 : q ≠ p := by rintro rfl; omega
  have pr : p = r := t.top hp pp
  have w0 := t.rt q0.1 ll
  have w1 := t.2.2.2.1 z w0.1
  have w2 : z ≠ p := by rintro rfl; omega
  have w3 : z ≠ q := by rintro rfl; omega
  obtain ⟨t1, t2, t3, t4, t5, t6, t7⟩ := t
  unfold tR
  simp only [fu]
  refine ⟨?_, ?_, ?_, ?_, ?_, ?_, ?_⟩
  · grind
  · grind
  · intro x hx; have := t3 x hx; grind
  · intro x hx; have := t4 x hx; have := t3 x hx; grind
  · intro x y hx e; have := t5 x y hx; have := t4 x hx; grind
  · intro x y hx e; have := t6 x y hx; have := t4 x hx; grind
  · intro y hy
    by_cases yp : y = p
    · rw [yp]
      refine Or.inr ⟨q, q0.1, ?_, ?_⟩ <;> clear t3 t4 t5 t6 t7 <;> grind
    by_cases yq : y = q
    · exact Or.inl yq
    by_cases yz : y = z
    · rw [yz]
      refine Or.inr ⟨p, hp, ?_, ?_⟩ <;> clear t3 t4 t5 t6 t7 <;> grind
    rcases t7 y hy with z0 | ⟨x, z1, z2, z3⟩
    · exact absurd (z0.trans pr.symm) yp
    · refine Or.inr ⟨x, z1, ?_, ?_⟩ <;> clear t3 t4 t5 t6 t7 <;> grind
theorem rotR_ln {s : Nat} (t : tR B r K P L R lo hi) (hp : B p) (hq : L p = some q) (pp : P p = some s) (sl : L s = some p) (ll : R q = none) :
    tR B r K (fu (fu P q (some s)) p (some q)) (fu (fu L p none) s (some q)) (fu R q (some p)) (fu lo p (K q)) (fu hi q (hi p)) := by
  have q0 := t.lf hp hq
  have q1 := t.2.2.2.1 p hp
  have q2 := t.2.2.2.1 q q0.1
  have q3 : q ≠ p := by rintro rfl; omega
  have s0 := t.up hp pp
  have s1 := t.2.2.2.1 s s0.1
  have s2 : p ≠ r := by rintro rfl; rw [t.2.1] at pp; cases pp
  have s3 := t.lf s0.1 sl
  have s4 : s ≠ p := by rintro rfl; omega
  have s5 : s ≠ q := by rintro rfl; omega
  obtain ⟨t1, t2, t3, t4, t5, t6, t7⟩ := t
  unfold tR
  simp only [fu]
  refine ⟨?_, ?_, ?_, ?_, ?_, ?_, ?_⟩
  · grind
  · grind
  · intro x hx; have := t3 x hx; grind
  · intro x hx; have := t4 x hx; have := t3 x hx; grind
  · intro x y hx e; have := t5 x y hx; have := t4 x hx; grind
  · intro x y hx e; have := t6 x y hx; have := t4 x hx; grind
  · intro y hy
    by_cases yp : y = p
    · rw [yp]
      refine Or.inr ⟨q, q0.1, ?_, ?_⟩ <;> clear t3 t4 t5 t6 t7 <;> grind
    by_cases yq : y = q
    · rw [yq]
      refine Or.inr ⟨s, s0.1, ?_, ?_⟩ <;> clear t3 t4 t5 t6 t7 <;> grind
    rcases t7 y hy with z0 | ⟨x, z1, z2, z3⟩
    · exact Or.inl z0
    · refine Or.inr ⟨x, z1, ?_, ?_⟩ <;> clear t3 t4 t5 t6 t7 <;> grind
theorem rotR_ls {z : Nat} {s : Nat} (t : tR B r K P L R lo hi) (hp : B p) (hq : L p = some q) (pp : P p = some s) (sl : L s = some p) (ll : R q = some z) :
    tR B r K (fu (fu (fu P z (some p)) q (some s)) p (some q)) (fu (fu L p (some z)) s (some q)) (fu R q (some p)) (fu lo p (K q)) (fu hi q (hi p)) := by
  have q0 := t.lf hp hq
  have q1 := t.2.2.2.1 p hp
  have q2 := t.2.2.2.1 q q0.1
  have q3 : q ≠ p := by rintro rfl; omega
  have s0 := t.up hp pp
  have s1 := t.2.2.2.1 s s0.1
  have s2 : p ≠ r := by rintro rfl; rw [t.2.1] at pp; cases pp
  have s3 := t.lf s0.1 sl
  have s4 : s ≠ p := by rintro rfl; omega
  have s5 : s ≠ q := by rintro rfl; omega
  have w0 := t.rt q0.1 ll
  have w1 := t.2.2.2.1 z w0.1
  have w2 : z ≠ p := by rintro rfl; omega
  have w3 : z ≠ q := by rintro rfl; omega
  obtain ⟨t1, t2, t3, t4, t5, t6, t7⟩ := t
  unfold tR
  simp only [fu]
  refine ⟨?_, ?_, ?_, ?_, ?_, ?_, ?_⟩
  · grind
  · grind
  · intro x hx; have := t3 x hx; grind
  · intro x hx; have := t4 x hx; have := t3 x hx; grind
  · intro x y hx e; have := t5 x y hx; have := t4 x hx; grind
  · intro x y hx e; have := t6 x y hx; have := t4 x hx; grind
  · intro y hy
    by_cases yp : y = p
    · rw [yp]
      refine Or.inr ⟨q, q0.1, ?_, ?_⟩ <;> clear t3 t4 t5 t6 t7 <;> grind
    by_cases yq : y = q
    · rw [yq]
      refine Or.inr ⟨s, s0.1, ?_, ?_⟩ <;> clear t3 t4 t5 t6 t7 <;> grind
    by_cases yz : y = z
    · rw [yz]
      refine Or.inr ⟨p, hp, ?_, ?_⟩ <;> clear t3 t4 t5 t6 t7 <;> grind
    rcases t7 y hy with z0 | ⟨x, z1, z2, z3⟩
    · exact Or.inl z0
    · refine Or.inr ⟨x, z1, ?_, ?_⟩ <;> clear t3 t4 t5 t6 t7 <;> grind
theorem rotR_rn {s : Nat} (t : tR B r K P L R lo hi) (hp : B p) (hq : L p = some q) (pp : P p = some s) (sl : R s = some p) (ll : R q = none) :
    tR B r K (fu (fu P q (some s)) p (some q)) (fu L p none) (fu (fu R s (some q)) q (some p)) (fu lo p (K q)) (fu hi q (hi p)) := by
  have q0 := t.lf hp hq
  have q1 := t.2.2.2.1 p hp
  have q2 := t.2.2.2.1 q q0.1
  have q3 : q ≠ p := by rintro rfl; omega
  have s0 := t.up hp pp
  have s1 := t.2.2.2.1 s s0.1
  have s2 : p ≠ r := by rintro rfl; rw [t.2.1] at pp; cases pp
  have s3 := t.rt s0.1 sl
  have s4 : s ≠ p := by rintro rfl; omega
  have s5 : s ≠ q := by rintro rfl; omega
  obtain ⟨t1, t2, t3, t4, t5, t6, t7⟩ := t
  unfold tR
  simp only [fu]
  refine ⟨?_, ?_, ?_, ?_, ?_, ?_, ?_⟩
  · grind
  · grind
  · intro x hx; have := t3 x hx; grind
  · intro x hx; have := t4 x hx; have := t3 x hx; grind
  · intro x y hx e; have := t5 x y hx; have := t4 x hx; grind
  · intro x y hx e; have := t6 x y hx; have := t4 x hx; grind
  · intro y hy
    by_cases yp : y = p
    · rw [yp]
      refine Or.inr ⟨q, q0.1, ?_, ?_⟩ <;> clear t3 t4 t5 t6 t7 <;> grind
    by_cases yq : y = q
    · rw [yq]
      refine Or.inr ⟨s, s0.1, ?_, ?_⟩ <;> clear t3 t4 t5 t6 t7 <;> grind
    rcases t7 y hy with z0 | ⟨x, z1, z2, z3⟩
    · exact Or.inl z0
    · refine Or.inr ⟨x, z1, ?_, ?_⟩ <;> clear t3 t4 t5 t6 t7 <;> grind
theorem rotR_rs {z : Nat} {s : Nat} (t : tR B r K P L R lo hi) (hp : B p) (hq : L p = some q) (pp : P p = some s) (sl : R s = some p) (ll : R q = some z) :
    tR B r K (fu (fu (fu P z (some p)) q (some s)) p (some q)) (fu L p (some z)) (fu (fu R s (some q)) q (some p)) (fu lo p (K q)) (fu hi q (hi p)) := by
  have q0 := t.lf hp hq
  have q1 := t.2.2.2.1 p hp
  have q2 := t.2.2.2.1 q q0.1
  have q3 : q ≠ p := by rintro rfl; omega
  have s0 := t.up hp pp
  have s1 := t.2.2.2.1 s s0.1
  have s2 : p ≠ r := by rintro rfl; rw [t.2.1] at pp; cases pp
  have s3 := t.rt s0.1 sl
  have s4 : s ≠ p := by rintro rfl; omega
  have s5 : s ≠ q := by rintro rfl; omega
  have w0 := t.rt q0.1 ll
  have w1 := t.2.2.2.1 z w0.1
  have w2 : z ≠ p := by rintro rfl; omega
  have w3 : z ≠ q := by rintro rfl; omega
  obtain ⟨t1, t2, t3, t4, t5, t6, t7⟩ := t
  unfold tR
  simp only [fu]
  refine ⟨?_, ?_, ?_, ?_, ?_, ?_, ?_⟩
  · grind
  · grind
  · intro x hx; have := t3 x hx; grind
  · intro x hx; have := t4 x hx; have := t3 x hx; grind
  · intro x y hx e; have := t5 x y hx; have := t4 x hx; grind
  · intro x y hx e; have := t6 x y hx; have := t4 x hx; grind
  · intro y hy
    by_cases yp : y = p
    · rw [yp]
      refine Or.inr ⟨q, q0.1, ?_, ?_⟩ <;> clear t3 t4 t5 t6 t7 <;> grind
    by_cases yq : y = q
    · rw [yq]
      refine Or.inr ⟨s, s0.1, ?_, ?_⟩ <;> clear t3 t4 t5 t6 t7 <;> grind
    by_cases yz : y = z
    · rw [yz]
      refine Or.inr ⟨p, hp, ?_, ?_⟩ <;> clear t3 t4 t5 t6 t7 <;> grind
    rcases t7 y hy with z0 | ⟨x, z1, z2, z3⟩
    · exact Or.inl z0
    · refine Or.inr ⟨x, z1, ?_, ?_⟩ <;> clear t3 t4 t5 t6 t7 <;> grind
/-- how two nodes lie to each other -/
def tD (K lo hi : Nat → Int) (L R : Nat → Option Nat) (x y : Nat) : Prop :=
  x = y ∨ (lo x ≤ lo y ∧ hi y ≤ K x ∧ ∃ c, L x = some c) ∨ (K x ≤ lo y ∧ hi y ≤ hi x ∧ ∃ c, R x = some c) ∨ (lo y ≤ lo x ∧ hi x ≤ K y) ∨ (K y ≤ lo x ∧ hi x ≤ hi y) ∨ hi x ≤ lo y ∨ hi y ≤ lo x
def tM (r : Nat) (lo hi : Nat → Int) (x : Nat) : Int := (hi r - lo r) - (min (hi x) (hi r) - max (lo x) (lo r))
theorem tR.mup (t : tR B r K P L R lo hi) {x p : Nat} (hp : B p) (e : L p = some x ∨ R p = some x) : tM r lo hi p < tM r lo hi x := by
  have a1 := t.2.2.1 p hp
  have a2 := t.2.2.2.1 p hp
  unfold tM
  rcases e with e | e
  · have b1 := t.lf hp e
    have b2 := t.2.2.2.1 x b1.1
    omega
  · have b1 := t.rt hp e
    have b2 := t.2.2.2.1 x b1.1
    omega
theorem tR.dis (t : tR B r K P L R lo hi) : ∀ (n : Nat) (x y : Nat), B x → B y → tM r lo hi x + tM r lo hi y < n → tD K lo hi L R x y := by
  intro n
  induction n with
  | zero =>
    intro x y hx hy hm
    exfalso
    have a1 := t.2.2.1 x hx
    have a2 := t.2.2.1 y hy
    have a3 := t.2.2.2.1 x hx
    have a4 := t.2.2.2.1 y hy
    unfold tM at hm
    omega
  | succ n ih =>
    intro x y hx hy hm
    have a1 := t.2.2.1 x hx
    have a2 := t.2.2.1 y hy
    have a3 := t.2.2.2.1 x hx
    have a4 := t.2.2.2.1 y hy
    by_cases e : x = y
    · exact Or.inl e
    rcases t.2.2.2.2.2.2 x hx with ex | ⟨px, x1, x2, x3⟩
    · rcases t.2.2.2.2.2.2 y hy with ey | ⟨py, y1, y2, y3⟩
      · exact absurd (ex.trans ey.symm) e
      · have m1 := t.mup y1 y3
        have d := ih x py hx y1 (by omega)
        have b1 := t.2.2.1 py y1
        have b2 := t.2.2.2.1 py y1
        rw [ex] at d a3 ⊢
        unfold tD at d ⊢
        rcases y3 with y3 | y3
        · have b3 := t.lf y1 y3
          rcases d with d | ⟨d1, d2, d3⟩ | ⟨d1, d2, d3⟩ | d | d | d | d
          · exact Or.inr (Or.inl ⟨by rw [d]; omega, by rw [d]; omega, y, by rw [d]; exact y3⟩)
          · exact Or.inr (Or.inl ⟨by omega, by omega, d3⟩)
          · exact Or.inr (Or.inr (Or.inl ⟨by omega, by omega, d3⟩))
          all_goals omega
        · have b3 := t.rt y1 y3
          rcases d with d | ⟨d1, d2, d3⟩ | ⟨d1, d2, d3⟩ | d | d | d | d
          · exact Or.inr (Or.inr (Or.inl ⟨by rw [d]; omega, by rw [d]; omega, y, by rw [d]; exact y3⟩))
          · exact Or.inr (Or.inl ⟨by omega, by omega, d3⟩)
          · exact Or.inr (Or.inr (Or.inl ⟨by omega, by omega, d3⟩))
          all_goals omega
    · have m2 := t.mup x1 x3
      have c1 := t.2.2.1 px x1
      have c2 := t.2.2.2.1 px x1
      have dx := ih px y x1 hy (by omega)
      have xx : (hi x = K px ∧ lo x = lo px) ∨ (lo x = K px ∧ hi x = hi px) := by
        rcases x3 with z | z
        · have := t.lf x1 z; omega
        · have := t.rt x1 z; omega
      by_cases ok : (lo y ≤ lo x ∧ hi x ≤ K y) ∨ (K y ≤ lo x ∧ hi x ≤ hi y) ∨ hi x ≤ lo y ∨ hi y ≤ lo x
      · exact Or.inr (Or.inr (Or.inr ok))
      have sub : lo x ≤ lo y ∧ hi y ≤ hi x := by
        unfold tD at dx
        rcases dx with d | ⟨d1, d2, d3⟩ | ⟨d1, d2, d3⟩ | d | d | d | d
        · rw [← d] at ok a4; omega
        all_goals omega
      rcases t.2.2.2.2.2.2 y hy with ey | ⟨py, y1, y2, y3⟩
      · exfalso
        rw [ey] at sub dx
        unfold tD at dx
        rcases dx with d | ⟨d1, d2, d3⟩ | ⟨d1, d2, d3⟩ | d | d | d | d
        · rw [← d] at sub; omega
        all_goals omega
      · have m1 := t.mup y1 y3
        have d := ih x py hx y1 (by omega)
        have b1 := t.2.2.1 py y1
        have b2 := t.2.2.2.1 py y1
        have yy : (hi y = K py ∧ lo y = lo py) ∨ (lo y = K py ∧ hi y = hi py) := by
          rcases y3 with z | z
          · have := t.lf y1 z; omega
          · have := t.rt y1 z; omega
        by_cases ok2 : (lo x ≤ lo py ∧ hi py ≤ K x ∧ ∃ c, L x = some c) ∨ (K x ≤ lo py ∧ hi py ≤ hi x ∧ ∃ c, R x = some c)
        · rcases ok2 with ⟨d1, d2, d3⟩ | ⟨d1, d2, d3⟩
          · exact Or.inr (Or.inl ⟨by omega, by omega, d3⟩)
          · exact Or.inr (Or.inr (Or.inl ⟨by omega, by omega, d3⟩))
        by_cases ok3 : x = py
        · subst ok3
          rcases y3 with z | z
          · have := t.lf y1 z
            exact Or.inr (Or.inl ⟨by omega, by omega, y, z⟩)
          · have := t.rt y1 z
            exact Or.inr (Or.inr (Or.inl ⟨by omega, by omega, y, z⟩))
        have sup : lo y ≤ lo x ∧ hi x ≤ hi y := by
          unfold tD at d
          rcases d with d | d | d | d | d | d | d
          · exact absurd d ok3
          · exact absurd (Or.inl d) ok2
          · exact absurd (Or.inr d) ok2
          all_goals omega
        exfalso
        have dp := ih px py x1 y1 (by omega)
        by_cases pp : px = py
        · subst pp
          rcases x3 with z | z
          · rcases y3 with w | w
            · rw [z] at w; exact e (Option.some.inj w)
            · have := t.lf x1 z; have := t.rt x1 w; omega
          · rcases y3 with w | w
            · have := t.rt x1 z; have := t.lf x1 w; omega
            · rw [z] at w; exact e (Option.some.inj w)
        · unfold tD at dp
          rcases dp with d | ⟨d1, d2, d3⟩ | ⟨d1, d2, d3⟩ | d | d | d | d
          · exact pp d
          all_goals omega
/-- a node whose range holds a key leads to it -/
theorem tR.path (t : tR B r K P L R lo hi) {x y : Nat} (hx : B x) (hy : B y) (h1 : lo x < K y) (h2 : K y < hi x) : y = x ∨ (K y < K x ∧ ∃ c, L x = some c) ∨ (K x < K y ∧ ∃ c, R x = some c) := by
  have a3 := t.2.2.2.1 x hx
  have a4 := t.2.2.2.1 y hy
  have d := t.dis ((tM r lo hi x + tM r lo hi y).toNat + 1) x y hx hy (by omega)
  unfold tD at d
  rcases d with d | ⟨d1, d2, d3⟩ | ⟨d1, d2, d3⟩ | d | d | d | d
  · exact Or.inl d.symm
  · exact Or.inr (Or.inl ⟨by omega, d3⟩)
  · exact Or.inr (Or.inr ⟨by omega, d3⟩)
  all_goals omega
/-- a new leaf -/
theorem tR.leafL (t : tR B r K P L R lo hi) {x n : Nat} (hx : B x) (nb : ¬ B n) (e : L x = none) (k1 : lo x < K n) (k2 : K n < K x) (ln : L n = none) (rn : R n = none) (r1 : lo r < K n ∧ K n < hi r) :
    tR (fun z => B z ∨ z = n) r K (fu P n (some x)) (fu L x (some n)) R (fu lo n (lo x)) (fu hi n (K x)) := by
  have nx : x ≠ n := by rintro rfl; exact nb hx
  have nr : r ≠ n := by rintro rfl; exact nb t.1
  obtain ⟨t1, t2, t3, t4, t5, t6, t7⟩ := t
  unfold tR
  simp only [fu]
  refine ⟨Or.inl t1, by grind, ?_, ?_, ?_, ?_, ?_⟩
  · intro y hy; rcases hy with hy | hy
    · have := t3 y hy; grind
    · grind
  · intro y hy; rcases hy with hy | hy
    · have := t4 y hy; grind
    · have := t4 x hx; grind
  · intro y z hy e; rcases hy with hy | hy
    · have := t5 y z hy; have := t4 y hy; grind
    · grind
  · intro y z hy e; rcases hy with hy | hy
    · have := t6 y z hy; have := t4 y hy; grind
    · grind
  · intro y hy; rcases hy with hy | hy
    · have yn : y ≠ n := by rintro rfl; exact nb hy
      rcases t7 y hy with z | ⟨w, z1, z2, z3⟩
      · exact Or.inl z
      · refine Or.inr ⟨w, Or.inl z1, ?_, ?_⟩ <;> clear t3 t4 t5 t6 t7 <;> grind
    · refine Or.inr ⟨x, Or.inl hx, ?_, ?_⟩ <;> clear t3 t4 t5 t6 t7 <;> grind
theorem tR.leafR (t : tR B r K P L R lo hi) {x n : Nat} (hx : B x) (nb : ¬ B n) (e : R x = none) (k1 : K x < K n) (k2 : K n < hi x) (ln : L n = none) (rn : R n = none) (r1 : lo r < K n ∧ K n < hi r) :
    tR (fun z => B z ∨ z = n) r K (fu P n (some x)) L (fu R x (some n)) (fu lo n (K x)) (fu hi n (hi x)) := by
  have nx : x ≠ n := by rintro rfl; exact nb hx
  have nr : r ≠ n := by rintro rfl; exact nb t.1
  obtain ⟨t1, t2, t3, t4, t5, t6, t7⟩ := t
  unfold tR
  simp only [fu]
  refine ⟨Or.inl t1, by grind, ?_, ?_, ?_, ?_, ?_⟩
  · intro y hy; rcases hy with hy | hy
    · have := t3 y hy; grind
    · grind
  · intro y hy; rcases hy with hy | hy
    · have := t4 y hy; grind
    · have := t4 x hx; grind
  · intro y z hy e; rcases hy with hy | hy
    · have := t5 y z hy; have := t4 y hy; grind
    · grind
  · intro y z hy e; rcases hy with hy | hy
    · have := t6 y z hy; have := t4 y hy; grind
    · grind
  · intro y hy; rcases hy with hy | hy
    · have yn : y ≠ n := by rintro rfl; exact nb hy
      rcases t7 y hy with z | ⟨w, z1, z2, z3⟩
      · exact Or.inl z
      · refine Or.inr ⟨w, Or.inl z1, ?_, ?_⟩ <;> clear t3 t4 t5 t6 t7 <;> grind
    · refine Or.inr ⟨x, Or.inl hx, ?_, ?_⟩ <;> clear t3 t4 t5 t6 t7 <;> grind
/-- the lone root -/
theorem tR.one {n : Nat} {K : Nat → Int} {P L R : Nat → Option Nat} (pn : P n = none) (ln : L n = none) (rn : R n = none) (h1 : lo n < K n) (h2 : K n < hi n) : tR (fun z => z = n) n K P L R lo hi := by
  refine ⟨rfl, pn, ?_, ?_, ?_, ?_, ?_⟩
  · rintro x rfl; exact ⟨h1, h2⟩
  · rintro x rfl; exact ⟨h1, h2⟩
  · rintro x y rfl e; rw [ln] at e; cases e
  · rintro x y rfl e; rw [rn] at e; cases e
  · rintro y rfl; exact Or.inl rfl
end TRE
