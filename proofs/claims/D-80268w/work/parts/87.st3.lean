/-! THE START: the abstract heap at the law's entry -/
/-- an array's kind by its elements' type -/
def aK (ty : FieldType) : Nat := match ty with
  | .int => 41
  | .byte => 45
  | .object n => if n = "java/lang/Object" then 47 else 49
  | _ => 0
/-- a cell's kind by its class -/
def clK (s : State) (a : Nat) : Nat := match s.heap[a]? with
  | none => 0
  | some ce => match s.vm.classes[ce.cls]? with
    | none => 0
    | some k => match k.kind with
      | .ordinary => if s.vm.findClass "java/lang/String" = some ce.cls then 11 else 9
      | .array _ ty => aK ty
      | _ => 0
def stM (E By In : Nat → Nat) (b : Nat) : List Nat := b :: E 30 :: E 31 :: E 32 :: ((List.range 27).map E ++ ((List.range 27).map By ++ (List.range 256).map In))
def kd0 (s : State) (M : List Nat) (a : Nat) : Nat := if a ∈ M then clK s a else 0
def st_v (s : State) (D : va_G) (M : List Nat) (a j : Nat) : Option Value := match s.heap[a]? with
  | none => none
  | some ce => ce.slots[if kd0 s M a = 11 then D.2 11 j else if kd0 s M a = 9 then D.2 9 j else j]?
def h00 (s : State) (D : va_G) (E : Nat → Nat) (M : List Nat) : am_H :=
  ((s.heap.size, (0, E)), ((kd0 s M, fun a => match s.heap[a]? with | some c => c.slots.size | none => 0),
   (fun a j => match st_v s D M a j with | some (.int x) => x | _ => 0), (fun _ _ => 0), fun a j => match st_v s D M a j with | some (.ref r) => some r | _ => none))
section SV3
variable {s : State} {D : va_G} {E By In : Nat → Nat} {M : List Nat} {a b L j : Nat} {xs : Nat → Int32} {cell : Cell}
theorem cl_arr {ty : FieldType} {comp : ClassId} {k : Class} {n : Nat} (hc : s.heap[a]? = some cell) (hk : s.vm.classes[cell.cls]? = some k) (hkind : k.kind = .array comp ty) (h : aK ty = n) : clK s a = n := by
  unfold clK
  rw [hc]
  dsimp only
  rw [hk]
  dsimp only
  rw [hkind]
  exact h
theorem cl_ord {k : Class} (hc : s.heap[a]? = some cell) (hk : s.vm.classes[cell.cls]? = some k) (hkind : k.kind = .ordinary) : clK s a = if s.vm.findClass "java/lang/String" = some cell.cls then 11 else 9 := by
  unfold clK
  rw [hc]
  dsimp only
  rw [hk]
  dsimp only
  rw [hkind]
theorem hK00 (hc : s.heap[a]? = some cell) (hm : a ∈ M) : hK (h00 s D E M) a = clK s a := by
  have hl : a < s.heap.size := (Array.getElem?_eq_some_iff.mp hc).1
  show (if a < s.heap.size then kd0 s M a else 0) = _
  rw [if_pos hl, kd0, if_pos hm]
theorem hK00_mem (h : hK (h00 s D E M) a ≠ 0) : a ∈ M := by
  apply Classical.byContradiction
  intro q
  apply h
  show (if a < s.heap.size then kd0 s M a else 0) = 0
  rw [kd0, if_neg q, ite_self]
theorem kd_k (hc : s.heap[a]? = some cell) : kd0 s M a = hK (h00 s D E M) a := by
  have hl : a < s.heap.size := (Array.getElem?_eq_some_iff.mp hc).1
  show _ = (if a < s.heap.size then kd0 s M a else 0)
  rw [if_pos hl]
theorem hL00 (hc : s.heap[a]? = some cell) : hL (h00 s D E M) a = cell.slots.size := by
  show (match s.heap[a]? with | some c => c.slots.size | none => 0) = _
  rw [hc]
theorem v00 {c : Nat} (hc : s.heap[a]? = some cell) (hk : hK (h00 s D E M) a = c) (h1 : c ≠ 11) (h2 : c ≠ 9) : st_v s D M a j = cell.slots[j]? := by
  unfold st_v
  rw [hc]
  dsimp only
  rw [kd_k (D := D) (E := E) hc, hk, if_neg h1, if_neg h2]
theorem w11 (hc : s.heap[a]? = some cell) (hk : hK (h00 s D E M) a = 11) : st_v s D M a j = cell.slots[D.2 11 j]? := by
  unfold st_v
  rw [hc]
  dsimp only
  rw [kd_k (D := D) (E := E) hc, hk, if_pos rfl]
theorem w9 (hc : s.heap[a]? = some cell) (hk : hK (h00 s D E M) a = 9) : st_v s D M a j = cell.slots[D.2 9 j]? := by
  unfold st_v
  rw [hc]
  dsimp only
  rw [kd_k (D := D) (E := E) hc, hk, if_neg (by decide), if_pos rfl]
theorem I00 {x : Int32} (h : st_v s D M a j = some (.int x)) : hI (h00 s D E M) a j = x := by
  show (match st_v s D M a j with | some (.int x) => x | _ => 0) = x
  rw [h]
theorem R00 {r : Nat} (h : st_v s D M a j = some (.ref r)) : hR (h00 s D E M) a j = some r := by
  show (match st_v s D M a j with | some (.ref r) => some r | _ => none) = some r
  rw [h]
/-- the kinds -/
def KF (s : State) (D : va_G) (E By In : Nat → Nat) (b : Nat) : Prop :=
  hK (h00 s D E (stM E By In b)) b = 41 ∧ (∀ k, k < 27 → hK (h00 s D E (stM E By In b)) (E k) = 11 ∧ hK (h00 s D E (stM E By In b)) (By k) = 45) ∧ (∀ k, k = 30 ∨ k = 31 → hK (h00 s D E (stM E By In b)) (E k) = 47) ∧
  hK (h00 s D E (stM E By In b)) (E 32) = 49 ∧ ∀ j, j < 256 → hK (h00 s D E (stM E By In b)) (In j) = 9
theorem m_0 : b ∈ stM E By In b := List.mem_cons_self
theorem m_e {k : Nat} (hk : k = 30 ∨ k = 31) : E k ∈ stM E By In b := by
  rcases hk with rfl | rfl
  · exact List.mem_cons_of_mem _ List.mem_cons_self
  · exact List.mem_cons_of_mem _ (List.mem_cons_of_mem _ List.mem_cons_self)
theorem m_32 : E 32 ∈ stM E By In b := List.mem_cons_of_mem _ (List.mem_cons_of_mem _ (List.mem_cons_of_mem _ List.mem_cons_self))
theorem m_s {k : Nat} (hk : k < 27) : E k ∈ stM E By In b := List.mem_cons_of_mem _ (List.mem_cons_of_mem _ (List.mem_cons_of_mem _ (List.mem_cons_of_mem _ (List.mem_append_left _ (List.mem_map.mpr ⟨k, List.mem_range.mpr hk, rfl⟩)))))
theorem m_b {k : Nat} (hk : k < 27) : By k ∈ stM E By In b := List.mem_cons_of_mem _ (List.mem_cons_of_mem _ (List.mem_cons_of_mem _ (List.mem_cons_of_mem _ (List.mem_append_right _ (List.mem_append_left _ (List.mem_map.mpr ⟨k, List.mem_range.mpr hk, rfl⟩))))))
theorem m_i (hj : j < 256) : In j ∈ stM E By In b := List.mem_cons_of_mem _ (List.mem_cons_of_mem _ (List.mem_cons_of_mem _ (List.mem_cons_of_mem _ (List.mem_append_right _ (List.mem_append_right _ (List.mem_map.mpr ⟨j, List.mem_range.mpr hj, rfl⟩))))))
theorem m_of (h : a ∈ stM E By In b) : a = b ∨ (∃ k, (k = 30 ∨ k = 31) ∧ a = E k) ∨ a = E 32 ∨ (∃ k, k < 27 ∧ a = E k) ∨ (∃ k, k < 27 ∧ a = By k) ∨ ∃ j, j < 256 ∧ a = In j := by
  rcases List.mem_cons.mp h with h | h
  · exact Or.inl h
  rcases List.mem_cons.mp h with h | h
  · exact Or.inr (Or.inl ⟨30, Or.inl rfl, h⟩)
  rcases List.mem_cons.mp h with h | h
  · exact Or.inr (Or.inl ⟨31, Or.inr rfl, h⟩)
  rcases List.mem_cons.mp h with h | h
  · exact Or.inr (Or.inr (Or.inl h))
  rcases List.mem_append.mp h with h | h
  · obtain ⟨k, hk, e⟩ := List.mem_map.mp h
    exact Or.inr (Or.inr (Or.inr (Or.inl ⟨k, List.mem_range.mp hk, e.symm⟩)))
  rcases List.mem_append.mp h with h | h
  · obtain ⟨k, hk, e⟩ := List.mem_map.mp h
    exact Or.inr (Or.inr (Or.inr (Or.inr (Or.inl ⟨k, List.mem_range.mp hk, e.symm⟩))))
  · obtain ⟨k, hk, e⟩ := List.mem_map.mp h
    exact Or.inr (Or.inr (Or.inr (Or.inr (Or.inr ⟨k, List.mem_range.mp hk, e.symm⟩))))
theorem KF_of (hD : ∀ (c : Nat) (q : vw_C), am_cls[c]? = some q → u_Kn s q.1 q.2.1 q.2.2 (D.1 c) (D.2 c)) (T : STs s D E By In) (X : va_X b L xs s s.heap) : KF s D E By In b := by
  obtain ⟨t1, t2, t3, t4⟩ := T
  refine ⟨?_, fun k hk => ⟨?_, ?_⟩, fun k hk => ?_, ?_, fun j hj => ?_⟩
  · obtain ⟨scr, x1, ⟨-, k, x2, comp, x3⟩, -⟩ := X
    rw [hK00 x1 m_0, cl_arr x1 x2 x3 (n := 41) (by decide)]
  · obtain ⟨⟨cell, c1, c2, -⟩, -⟩ := t1 k hk
    obtain ⟨-, h1, kC, h2, h3⟩ := hD 11 _ rfl
    rw [hK00 c1 (m_s hk), cl_ord c1 (by rw [c2]; exact h2) h3, if_pos (by rw [c2]; exact h1)]
  · obtain ⟨-, cell, c1, ⟨-, k', x2, comp, x3⟩, -⟩ := t1 k hk
    rw [hK00 c1 (m_b hk), cl_arr c1 x2 x3 (n := 45) (by decide)]
  · obtain ⟨cell, c1, ⟨-, k', x2, comp, x3⟩, -⟩ := t2 k hk
    rw [hK00 c1 (m_e hk), cl_arr c1 x2 x3 (n := 47) (by decide)]
  · obtain ⟨cell, c1, ⟨-, k', x2, comp, x3⟩, -⟩ := t3
    rw [hK00 c1 m_32, cl_arr c1 x2 x3 (n := 49) (by decide)]
  · obtain ⟨cell, c1, c2, -⟩ := t4 j hj
    obtain ⟨-, h1, kC, h2, h3⟩ := hD 9 _ rfl
    rw [hK00 c1 (m_i hj), cl_ord c1 (by rw [c2]; exact h2) h3, if_neg]
    intro q
    rw [c2] at q
    obtain ⟨k1, y1, y2⟩ := Vm.findClass_spec q
    obtain ⟨k2, z1, z2⟩ := Vm.findClass_spec h1
    cases y1.symm.trans z1
    exact absurd (y2.symm.trans z2) (by decide)
/-- a constant array -/
theorem ar00 {dA : Nat → ClassId} {c N : Nat} (hro : am_ro c = true) (h1 : c ≠ 11) (h2 : c ≠ 9) (hk : hK (h00 s D E M) a = c) (hc : s.heap[a]? = some cell) (ho : s.isArrayOf cell (am_aty c)) (hu : cell.vm ≠ .unknown) (hN : cell.slots.size = N) (hb : N ≤ 1000000) (el : am_el (h00 s D E M) c a)
    (hv : ∀ j, j < N → cell.slots[j]? = some (am_av (h00 s D E M) c a j)) (hf : c = 45 ∨ c = 47 → s.vm.findClass ("[" ++ (am_aty c).toString) = some cell.cls) : am_ar dA (h00 s D E M) s c a s.heap := by
  have e := hL00 (D := D) (E := E) (M := M) hc
  rw [hN] at e
  exact ⟨by omega, el, fun z => (by rw [hro] at z; cases z), fun _ => ⟨cell, hc, ho, hu, by rw [hN, e], fun j hj => hv j (by omega), hf⟩⟩
theorem st_SH {dA : Nat → ClassId} (hD : ∀ (c : Nat) (q : vw_C), am_cls[c]? = some q → u_Kn s q.1 q.2.1 q.2.2 (D.1 c) (D.2 c)) (T : STs s D E By In) (X : va_X b L xs s s.heap) (hL : L ≤ 384) (ok : ∀ k, k < 27 → ∀ x ∈ stT k, fits .byte (.int x) = true) :
    SH D dA (fun q => s.heap.size ≤ q) s (h00 s D E (stM E By In b)) s.heap := by
  have F := KF_of hD T X
  obtain ⟨f1, f2, f3, f4, f5⟩ := F
  have T' := T
  obtain ⟨t1, t2, t3, t4⟩ := T
  refine ⟨rfl, fun a c hk hc => ?_⟩
  have hm := hK00_mem (by rw [hk]; exact hc)
  rcases m_of hm with rfl | ⟨k, hk9, rfl⟩ | rfl | ⟨k, hk9, rfl⟩ | ⟨k, hk9, rfl⟩ | ⟨j, hj, rfl⟩
  · rw [f1] at hk
    subst hk
    obtain ⟨scr, x1, x2, x3, x4, x5⟩ := X
    have v := fun j => v00 (j := j) x1 f1 (by decide) (by decide)
    refine ⟨fun z => (by cases z), Or.inr (Or.inl ⟨by decide, by decide, ar00 (N := L) rfl (by decide) (by decide) f1 x1 x2 x3 x4 (by omega) ?_ ?_ (fun z => by omega)⟩)⟩
    · intro j hj
      exact ⟨fun z => (by omega), fun z => (by omega), fun z => (by omega)⟩
    · intro j hj
      have := x5 j hj
      rw [this]
      rw [show am_av (h00 s D E (stM E By In a)) 41 a j = .int (hI (h00 s D E (stM E By In a)) a j) from rfl, I00 (by rw [v j]; exact this)]
  · have g := f3 k hk9
    rw [g] at hk
    subst hk
    obtain ⟨cell, c1, c2, c3, c4, c5⟩ := t2 k hk9
    have hl := hL00 (D := D) (E := E) (M := stM E By In b) c1
    refine ⟨fun z => (by cases z), Or.inr (Or.inl ⟨by decide, by decide, ar00 (N := 0) rfl (by decide) (by decide) g c1 c2 c3 c4 (by omega) ?_ (fun j hj => by omega) (fun _ => c5)⟩)⟩
    intro j hj
    rw [hl, c4] at hj
    omega
  · rw [f4] at hk
    subst hk
    obtain ⟨cell, c1, c2, c3, c4, c5⟩ := t3
    have hl := hL00 (D := D) (E := E) (M := stM E By In b) c1
    have v := fun j => v00 (j := j) c1 f4 (by decide) (by decide)
    have rr : ∀ j, j < 256 → hR (h00 s D E (stM E By In b)) (E 32) j = some (In j) := fun j hj => R00 (by rw [v j]; exact c5 j hj)
    refine ⟨fun z => (by cases z), Or.inr (Or.inl ⟨by decide, by decide, ar00 (N := 256) rfl (by decide) (by decide) f4 c1 c2 c3 c4 (by omega) ?_ ?_ (fun z => by omega)⟩)⟩
    · intro j hj
      rw [hl, c4] at hj
      refine ⟨fun z => (by omega), fun z => (by omega), fun _ b' hb' => ?_⟩
      rw [rr j hj] at hb'
      cases hb'
      rw [f5 j hj]
      decide
    · intro j hj
      rw [c5 j hj, show am_av (h00 s D E (stM E By In b)) 49 (E 32) j = va_rf (hR (h00 s D E (stM E By In b)) (E 32) j) from rfl, rr j hj]
      rfl
  · have g := (f2 k hk9).1
    rw [g] at hk
    subst hk
    obtain ⟨⟨cell, c1, c2, c3, c4, d0, d1, d2, d3⟩, -⟩ := t1 k hk9
    refine ⟨fun z => (by cases z), Or.inl ⟨by decide, by decide, cell, _, rfl, c1, c2, c3, c4, fun z => (by cases z), fun i hi => ?_⟩⟩
    have v := fun j => w11 (j := j) c1 g
    have hi : i < 4 := hi
    match i, hi with
    | 0, _ => exact ⟨_, d0, fun w hw => by
        rw [show am_fv (h00 s D E (stM E By In b)) (E k) 0 (am_fty 11 0) = some (va_rf (hR (h00 s D E (stM E By In b)) (E k) 0)) from rfl, R00 (by rw [v 0]; exact d0)] at hw
        exact Option.some.inj hw⟩
    | 1, _ => exact ⟨_, d1, fun w hw => by
        rw [show am_fv (h00 s D E (stM E By In b)) (E k) 1 (am_fty 11 1) = some (.int (hI (h00 s D E (stM E By In b)) (E k) 1)) from rfl, I00 (by rw [v 1]; exact d1)] at hw
        exact Option.some.inj hw⟩
    | 2, _ => exact ⟨_, d2, fun w hw => by
        rw [show am_fv (h00 s D E (stM E By In b)) (E k) 2 (am_fty 11 2) = some (.int (hI (h00 s D E (stM E By In b)) (E k) 2)) from rfl, I00 (by rw [v 2]; exact d2)] at hw
        exact Option.some.inj hw⟩
    | 3, _ => exact ⟨_, d3, fun w hw => by
        rw [show am_fv (h00 s D E (stM E By In b)) (E k) 3 (am_fty 11 3) = some (.int (hI (h00 s D E (stM E By In b)) (E k) 3)) from rfl, I00 (by rw [v 3]; exact d3)] at hw
        exact Option.some.inj hw⟩
  · have g := (f2 k hk9).2
    rw [g] at hk
    subst hk
    obtain ⟨-, cell, c1, c2, c3, c4, c5, c6⟩ := t1 k hk9
    have hl := hL00 (D := D) (E := E) (M := stM E By In b) c1
    have v := fun j => v00 (j := j) c1 g (by decide) (by decide)
    have ii : ∀ j, j < (stT k).length → hI (h00 s D E (stM E By In b)) (By k) j = (stT k).getD j 0 := fun j hj => I00 (by rw [v j]; exact c5 j hj)
    have len : ∀ k, k < 27 → (stT k).length ≤ 1000000 := by
      intro k hk
      have : ∀ k : Fin 27, (stT k.val).length ≤ 1000000 := by decide +kernel
      exact this ⟨k, hk⟩
    refine ⟨fun z => (by cases z), Or.inr (Or.inl ⟨by decide, by decide, ar00 (N := (stT k).length) rfl (by decide) (by decide) g c1 c2 c3 c4 (len k hk9) ?_ ?_ (fun _ => c6)⟩)⟩
    · intro j hj
      rw [hl, c4] at hj
      refine ⟨fun z => (by omega), fun _ => ?_, fun z => (by omega)⟩
      rw [ii j hj]
      apply ok k hk9
      rw [List.getD_eq_getElem?_getD, List.getElem?_eq_getElem hj]
      exact List.getElem_mem hj
    · intro j hj
      rw [c5 j hj, show am_av (h00 s D E (stM E By In b)) 45 (By k) j = .int (hI (h00 s D E (stM E By In b)) (By k) j) from rfl, ii j hj]
  · have g := f5 j hj
    rw [g] at hk
    subst hk
    obtain ⟨cell, c1, c2, c3, c4, d0⟩ := t4 j hj
    refine ⟨fun z => (by cases z), Or.inl ⟨by decide, by decide, cell, _, rfl, c1, c2, c3, c4, fun z => (by cases z), fun i hi => ?_⟩⟩
    have v := fun j => w9 (j := j) c1 g
    have hi : i < 1 := hi
    match i, hi with
    | 0, _ => exact ⟨_, d0, fun w hw => by
        rw [show am_fv (h00 s D E (stM E By In b)) (In j) 0 (am_fty 9 0) = some (.int (hI (h00 s D E (stM E By In b)) (In j) 0)) from rfl, I00 (by rw [v 0]; exact d0)] at hw
        exact Option.some.inj hw⟩
theorem st_fit : ∀ k, k < 27 → ∀ x ∈ stT k, fits .byte (.int x) = true := by
  intro k hk
  have : ∀ k : Fin 27, (stT k.val).all (fun x => fits .byte (.int x)) = true := by decide +kernel
  exact List.all_eq_true.mp (this ⟨k, hk⟩)
end SV3
