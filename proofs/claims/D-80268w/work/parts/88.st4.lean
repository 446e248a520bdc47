/-! THE START: the view of the first heap -/
def vTx0 (h : am_H) (a : Nat) : List Int32 := match hR h a 0 with
  | some c => (List.range (hL h c)).map (hI h c)
  | none => []
def vw0 (h : am_H) : vT := (((h.1, ((fun a => if hK h a = 9 ∨ hK h a = 11 ∨ hK h a = 41 then hK h a else 0), h.2.1.2), h.2.2) : am_H), (fun _ => []), vTx0 h, (fun _ _ => none), fun _ => 0)
section SV4
variable {s : State} {D : va_G} {E By In : Nat → Nat} {a b L j : Nat} {xs : Nat → Int32} {h : am_H}
theorem vw0_k : hK (vw0 h).1 a = if hK h a = 9 ∨ hK h a = 11 ∨ hK h a = 41 then hK h a else 0 := by
  show (if a < hN h then (if hK h a = 9 ∨ hK h a = 11 ∨ hK h a = 41 then hK h a else 0) else 0) = _
  by_cases q : a < hN h
  · rw [if_pos q]
  · rw [if_neg q]
    have : hK h a = 0 := by
      unfold hK
      exact if_neg q
    rw [this]
    rfl
theorem st_len (T : List Int32) : (List.range T.length).map (fun j => T.getD j 0) = T := by
  apply List.ext_getElem
  · simp
  · intro i h1 h2
    simp [List.getD_eq_getElem?_getD, h2]
theorem st_tx (k : Nat) (hk : k < 27) : stT k = cT k ∧ okB (stT k) ∧ (stT k).length ≤ 300 ∧ stH k = hashS (stT k) ∧ stZ k = 0 ∧ stH k ≠ 0 := by
  have a : ∀ i : Fin 27, stT i.val = cT i.val ∧ (stT i.val).all (fun x => x.toInt8.toInt32 == x) = true ∧ (stT i.val).length ≤ 300 ∧ stH i.val = hashS (stT i.val) ∧ stZ i.val = 0 ∧ stH i.val ≠ 0 := by decide +kernel
  obtain ⟨a1, a2, a3⟩ := a ⟨k, hk⟩
  exact ⟨a1, fun x hx => by simpa using List.all_eq_true.mp a2 x hx, a3⟩
theorem st_vb (j : Nat) (hj : j < 256) : vb_c j = iI ((j : Int) - 128) := by
  have a : ∀ i : Fin 256, vb_c i.val = iI ((i.val : Int) - 128) := by decide +kernel
  exact a ⟨j, hj⟩
/-- a String constant in the abstract heap -/
theorem st_t (F : KF s D E By In b) (T : STs s D E By In) {k : Nat} (hk : k < 27) : hR (h00 s D E (stM E By In b)) (E k) 0 = some (By k) ∧ hI (h00 s D E (stM E By In b)) (E k) 1 = 0 ∧ hI (h00 s D E (stM E By In b)) (E k) 2 = stH k ∧ hI (h00 s D E (stM E By In b)) (E k) 3 = stZ k ∧
    By k < hN (h00 s D E (stM E By In b)) ∧ hL (h00 s D E (stM E By In b)) (By k) = (stT k).length ∧ ∀ j, j < (stT k).length → hI (h00 s D E (stM E By In b)) (By k) j = (stT k).getD j 0 := by
  obtain ⟨f1, f2, f3, f4, f5⟩ := F
  obtain ⟨t1, t2, t3, t4⟩ := T
  obtain ⟨⟨cell, c1, c2, c3, c4, d0, d1, d2, d3⟩, ce, e1, e2, e3, e4, e5, e6⟩ := t1 k hk
  have v := fun j => w11 (j := j) c1 (f2 k hk).1
  have w := fun j => v00 (j := j) e1 (f2 k hk).2 (by decide) (by decide)
  refine ⟨R00 (by rw [v 0]; exact d0), I00 (by rw [v 1]; exact d1), I00 (by rw [v 2]; exact d2), I00 (by rw [v 3]; exact d3), (Array.getElem?_eq_some_iff.mp e1).1, by rw [hL00 e1, e4], fun j hj => I00 (by rw [w j]; exact e5 j hj)⟩
theorem st_vtx (F : KF s D E By In b) (T : STs s D E By In) {k : Nat} (hk : k < 27) : vTx (vw0 (h00 s D E (stM E By In b))) (E k) = stT k := by
  obtain ⟨g1, g2, g3, g4, g5, g6, g7⟩ := st_t F T hk
  show vTx0 (h00 s D E (stM E By In b)) (E k) = stT k
  unfold vTx0
  rw [g1]
  dsimp only
  rw [g6]
  refine Eq.trans (List.map_congr_left fun j hj => ?_) (st_len (stT k))
  exact g7 j (List.mem_range.mp hj)
theorem st_CR (F : KF s D E By In b) (T : STs s D E By In) : CR (h00 s D E (stM E By In b)) (vw0 (h00 s D E (stM E By In b))) := by
  have F' := F
  have T' := T
  obtain ⟨f1, f2, f3, f4, f5⟩ := F
  obtain ⟨t1, t2, t3, t4⟩ := T
  refine ⟨fun a => a, rfl, rfl, fun _ => rfl, ⟨⟨f3 31 (Or.inr rfl), ?_, rfl⟩, ⟨f4, ?_, rfl, fun i hi => ?_⟩, rfl⟩, fun a ha => ⟨fun q => ⟨rfl, ?_⟩, fun _ _ => ⟨rfl, fun k => ⟨rfl, rfl, rfl⟩⟩, fun q => ?_, fun q => ?_, fun q => ?_, fun q => ?_⟩⟩
  · obtain ⟨cell, c1, c2, c3, c4, c5⟩ := t2 31 (Or.inr rfl)
    exact (hL00 c1).trans c4
  · obtain ⟨cell, c1, c2, c3, c4, c5⟩ := t3
    exact (hL00 c1).trans c4
  · obtain ⟨cell, c1, c2, c3, c4, c5⟩ := t3
    have v := fun j => v00 (j := j) c1 f4 (by decide) (by decide)
    obtain ⟨ce, e1, e2, e3, e4, d0⟩ := t4 i hi
    have w := fun j => w9 (j := j) e1 (f5 i hi)
    have y : hI (h00 s D E (stM E By In b)) (In i) 0 = iI ((i : Int) - 128) := by
      rw [← st_vb i hi]
      exact I00 (by rw [w 0]; exact d0)
    refine ⟨In i, R00 ((v i).trans (c5 i hi)), f5 i hi, rfl, y, ?_, y⟩
    rw [vw0_k, f5 i hi]
    rfl
  · rw [vw0_k] at q ⊢
    split at q
    · rename_i z
      rw [if_pos z]
    · exact absurd rfl q
  · rw [vw0_k] at q
    split at q <;> omega
  · rw [vw0_k] at q
    split at q <;> omega
  · have q11 : hK (h00 s D E (stM E By In b)) a = 11 ∧ hK (vw0 (h00 s D E (stM E By In b))).1 a = 11 := by
      rw [vw0_k] at q ⊢
      split at q
      · rename_i z
        rw [if_pos z]
        omega
      · omega
    obtain ⟨q1, q2⟩ := q11
    rw [q2]
    rcases m_of (hK00_mem (by rw [q1]; decide)) with rfl | ⟨k, hk, rfl⟩ | rfl | ⟨k, hk, rfl⟩ | ⟨k, hk, rfl⟩ | ⟨j, hj, rfl⟩
    · rw [f1] at q1; cases q1
    · rw [f3 k hk] at q1; cases q1
    · rw [f4] at q1; cases q1
    · obtain ⟨g1, g2, g3, g4, g5, g6, g7⟩ := st_t F' T' hk
      obtain ⟨x1, x2, x3, x4, x5, x6⟩ := st_tx k hk
      rw [st_vtx F' T' hk]
      refine ⟨⟨By k, g1, g5, Or.inr ⟨rfl, (f2 k hk).2, rfl⟩, g6, g7⟩, g2, x2, x3, Or.inr (by rw [g3, x4]), fun z => ?_, fun _ => Or.inl (by rw [g3]; exact x6)⟩
      rw [g4, x5] at z
      exact absurd rfl z
    · rw [(f2 k hk).2] at q1; cases q1
    · rw [f5 j hj] at q1; cases q1
  · rw [vw0_k] at q
    split at q <;> omega
theorem st_CS (F : KF s D E By In b) (T : STs s D E By In) : CS (vw0 (h00 s D E (stM E By In b))) := by
  intro k hk
  have hk : k < 27 := by omega
  have e : hE (vw0 (h00 s D E (stM E By In b))).1 k = E k := rfl
  rw [e]
  refine ⟨?_, ?_⟩
  · rw [vw0_k, (F.2.1 k hk).1]
    rfl
  · rw [st_vtx F T hk]
    exact (st_tx k hk).1
theorem st_SC (F : KF s D E By In b) (X : va_X b L xs s s.heap) : SCs (vw0 (h00 s D E (stM E By In b))).1 b L (fun k => hI (h00 s D E (stM E By In b)) b k) := by
  obtain ⟨scr, x1, x2, x3, x4, x5⟩ := X
  refine ⟨?_, (hL00 (D := D) (E := E) (M := stM E By In b) x1).trans x4, fun k => rfl⟩
  rw [vw0_k, F.1]
  rfl
end SV4
