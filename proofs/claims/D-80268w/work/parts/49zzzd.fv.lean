/-! COMPONENT, 1: what changes of a view; kinds *-/
/-- of the cells of v only the places X change (99: what a list, map or text holds) -/
def Fw (X : Nat → Nat → Prop) (v v' : vT) : Prop :=
  hN v.1 ≤ hN v'.1 ∧ (∀ k, hE v'.1 k = hE v.1 k) ∧ ∀ a, a < hN v.1 → hK v'.1 a = hK v.1 a ∧ hL v'.1 a = hL v.1 a ∧ (∀ k, ¬ X a k → hI v'.1 a k = hI v.1 a k ∧ hJ v'.1 a k = hJ v.1 a k ∧ hR v'.1 a k = hR v.1 a k) ∧ (¬ X a 99 → vLs v' a = vLs v a ∧ vMp v' a = vMp v a ∧ vCp v' a = vCp v a ∧ vTx v' a = vTx v a)
section FVS
variable {X Y : Nat → Nat → Prop} {v v' v'' v0 : vT} {a b k c n s l : Nat} {x : Int32} {y : Int64} {z : Option Nat} {L : List (Option Nat)} {T : List Int32}
theorem Fw.refl : Fw X v v := ⟨Nat.le_refl _, fun _ => rfl, fun _ _ => ⟨rfl, rfl, fun _ _ => ⟨rfl, rfl, rfl⟩, fun _ => ⟨rfl, rfl, rfl, rfl⟩⟩⟩
theorem Fw.trans (f : Fw X v v') (g : Fw X v' v'') : Fw X v v'' := by
  obtain ⟨f1, f2, f3⟩ := f
  obtain ⟨g1, g2, g3⟩ := g
  refine ⟨by omega, fun k => (g2 k).trans (f2 k), fun a ha => ?_⟩
  obtain ⟨x1, x2, x3, x4⟩ := f3 a ha
  obtain ⟨y1, y2, y3, y4⟩ := g3 a (by omega)
  refine ⟨y1.trans x1, y2.trans x2, fun k q => ?_, fun q => ?_⟩
  · obtain ⟨a1, a2, a3⟩ := x3 k q
    obtain ⟨b1, b2, b3⟩ := y3 k q
    exact ⟨b1.trans a1, b2.trans a2, b3.trans a3⟩
  · obtain ⟨a1, a2, a3, a4⟩ := x4 q
    obtain ⟨b1, b2, b3, b4⟩ := y4 q
    exact ⟨b1.trans a1, b2.trans a2, b3.trans a3, b4.trans a4⟩
theorem Fw.mono (m : ∀ a k, X a k → Y a k) (f : Fw X v v') : Fw Y v v' := by
  obtain ⟨f1, f2, f3⟩ := f
  refine ⟨f1, f2, fun a ha => ?_⟩
  obtain ⟨x1, x2, x3, x4⟩ := f3 a ha
  exact ⟨x1, x2, fun k q => x3 k (fun w => q (m a k w)), fun q => x4 (fun w => q (m a 99 w))⟩
theorem Fw.kk (f : Fw X v v') (ha : hK v.1 a = n) (h0 : n ≠ 0) : hK v'.1 a = n := by
  rw [(f.2.2 a (hK_lt ha h0)).1, ha]
theorem Fw.ff (f : Fw X v v') (ha : a < hN v.1) (q : ¬ X a k) : hI v'.1 a k = hI v.1 a k ∧ hJ v'.1 a k = hJ v.1 a k ∧ hR v'.1 a k = hR v.1 a k := (f.2.2 a ha).2.2.1 k q
theorem Fw.cc (f : Fw X v v') (ha : a < hN v.1) (q : ¬ X a 99) : vLs v' a = vLs v a ∧ vMp v' a = vMp v a ∧ vCp v' a = vCp v a ∧ vTx v' a = vTx v a := (f.2.2 a ha).2.2.2 q
/-- a step: old cells change at places of X, new ones as they may -/
theorem Fw.step (f : Fw X v0 v) (h1 : hN v.1 ≤ hN v'.1) (h2 : ∀ k, hE v'.1 k = hE v.1 k) (h3 : ∀ a, a < hN v.1 → hK v'.1 a = hK v.1 a ∧ hL v'.1 a = hL v.1 a) (h4 : ∀ a k, a < hN v.1 → a < hN v0.1 → ¬ X a k → hI v'.1 a k = hI v.1 a k ∧ hJ v'.1 a k = hJ v.1 a k ∧ hR v'.1 a k = hR v.1 a k) (h5 : ∀ a, a < hN v.1 → a < hN v0.1 → ¬ X a 99 → vLs v' a = vLs v a ∧ vMp v' a = vMp v a ∧ vCp v' a = vCp v a ∧ vTx v' a = vTx v a) : Fw X v0 v' := by
  obtain ⟨f1, f2, f3⟩ := f
  refine ⟨by omega, fun k => (h2 k).trans (f2 k), fun a ha => ?_⟩
  obtain ⟨x1, x2, x3, x4⟩ := f3 a ha
  refine ⟨(h3 a (by omega)).1.trans x1, (h3 a (by omega)).2.trans x2, fun k q => ?_, fun q => ?_⟩
  · obtain ⟨a1, a2, a3⟩ := x3 k q
    obtain ⟨b1, b2, b3⟩ := h4 a k (by omega) ha q
    exact ⟨b1.trans a1, b2.trans a2, b3.trans a3⟩
  · obtain ⟨a1, a2, a3, a4⟩ := x4 q
    obtain ⟨b1, b2, b3, b4⟩ := h5 a (by omega) ha q
    exact ⟨b1.trans a1, b2.trans a2, b3.trans a3, b4.trans a4⟩
theorem Fw.pI (f : Fw X v0 v) (q : hN v0.1 ≤ a ∨ X a k) : Fw X v0 (vpI v a k x) := by
  refine f.step (Nat.le_refl _) (fun _ => rfl) (fun _ _ => ⟨rfl, rfl⟩) (fun b j _ hb w => ⟨?_, rfl, rfl⟩) (fun _ _ _ _ => ⟨rfl, rfl, rfl, rfl⟩)
  rw [vpI_1, hI_putI, if_neg]
  rintro ⟨rfl, rfl⟩
  rcases q with q | q
  · omega
  · exact w q
theorem Fw.pJ (f : Fw X v0 v) (q : hN v0.1 ≤ a ∨ X a k) : Fw X v0 (vpJ v a k y) := by
  refine f.step (Nat.le_refl _) (fun _ => rfl) (fun _ _ => ⟨rfl, rfl⟩) (fun b j _ hb w => ⟨rfl, ?_, rfl⟩) (fun _ _ _ _ => ⟨rfl, rfl, rfl, rfl⟩)
  rw [vpJ_1, hJ_putJ, if_neg]
  rintro ⟨rfl, rfl⟩
  rcases q with q | q
  · omega
  · exact w q
theorem Fw.pR (f : Fw X v0 v) (q : hN v0.1 ≤ a ∨ X a k) : Fw X v0 (vpR v a k z) := by
  refine f.step (Nat.le_refl _) (fun _ => rfl) (fun _ _ => ⟨rfl, rfl⟩) (fun b j _ hb w => ⟨rfl, rfl, ?_⟩) (fun _ _ _ _ => ⟨rfl, rfl, rfl, rfl⟩)
  rw [vpR_1, hR_putR, if_neg]
  rintro ⟨rfl, rfl⟩
  rcases q with q | q
  · omega
  · exact w q
theorem Fw.nw (f : Fw X v0 v) : Fw X v0 (vnw v c n) := by
  refine f.step (by rw [vnw_1, hN_newC]; omega) (fun _ => rfl) (fun b hb => ⟨by rw [vnw_1, hK_newC, if_neg (by omega)], by rw [vnw_1, hL_newC, if_neg (by omega)]⟩) (fun b j hb _ _ => ⟨by rw [vnw_1, hI_newC, if_neg (by omega)], by rw [vnw_1, hJ_newC, if_neg (by omega)], by rw [vnw_1, hR_newC, if_neg (by omega)]⟩) (fun _ _ _ _ => ⟨rfl, rfl, rfl, rfl⟩)
theorem Fw.bm (f : Fw X v0 v) (hn : hN v.1 ≤ n) : Fw X v0 (vbm v n s) :=
  f.step hn (fun _ => rfl) (fun b _ => ⟨hK_bmp hn, rfl⟩) (fun _ _ _ _ _ => ⟨rfl, rfl, rfl⟩) (fun _ _ _ _ => ⟨rfl, rfl, rfl, rfl⟩)
theorem Fw.sL (f : Fw X v0 v) (q : hN v0.1 ≤ a ∨ X a 99) : Fw X v0 (vsL v a L c) := by
  refine f.step (Nat.le_refl _) (fun _ => rfl) (fun _ _ => ⟨rfl, rfl⟩) (fun _ _ _ _ _ => ⟨rfl, rfl, rfl⟩) (fun b _ hb w => ?_)
  have ne : b ≠ a := by
    rintro rfl
    rcases q with q | q
    · omega
    · exact w q
  exact ⟨if_neg ne, rfl, if_neg ne, rfl⟩
theorem Fw.sT (f : Fw X v0 v) (q : hN v0.1 ≤ a ∨ X a 99) : Fw X v0 (vsT v a T) := by
  refine f.step (Nat.le_refl _) (fun _ => rfl) (fun _ _ => ⟨rfl, rfl⟩) (fun _ _ _ _ _ => ⟨rfl, rfl, rfl⟩) (fun b _ hb w => ?_)
  have ne : b ≠ a := by
    rintro rfl
    rcases q with q | q
    · omega
    · exact w q
  exact ⟨rfl, rfl, rfl, if_neg ne⟩
theorem Fw.sM (f : Fw X v0 v) (q : hN v0.1 ≤ a ∨ X a 99) : Fw X v0 (vsM v a T l) := by
  refine f.step (Nat.le_refl _) (fun _ => rfl) (fun _ _ => ⟨rfl, rfl⟩) (fun _ _ _ _ _ => ⟨rfl, rfl, rfl⟩) (fun b _ hb w => ?_)
  have ne : b ≠ a := by
    rintro rfl
    rcases q with q | q
    · omega
    · exact w q
  exact ⟨rfl, funext fun t => if_neg (fun e => ne e.1), rfl, rfl⟩
theorem Fw.nM (f : Fw X v0 v) (q : hN v0.1 ≤ a ∨ X a 99) : Fw X v0 (vnM v a) := by
  refine f.step (Nat.le_refl _) (fun _ => rfl) (fun _ _ => ⟨rfl, rfl⟩) (fun _ _ _ _ _ => ⟨rfl, rfl, rfl⟩) (fun b _ hb w => ?_)
  have ne : b ≠ a := by
    rintro rfl
    rcases q with q | q
    · omega
    · exact w q
  exact ⟨rfl, funext fun t => if_neg ne, rfl, rfl⟩
end FVS
/-! kinds -/
/-- numbered addresses as a list -/
def rowL (A : Int → Nat) (o n : Int) : List (Option Nat) := (List.range n.toNat).map (fun (i : Nat) => some (A (o + (i : Int))))
theorem rowL_len {A : Int → Nat} {o n : Int} : (rowL A o n).length = n.toNat := by
  unfold rowL
  rw [List.length_map, List.length_range]
theorem rowL_get {A : Int → Nat} {o n k : Int} (h0 : 0 ≤ k) (h1 : k < n) : (rowL A o n).getD k.toNat none = some (A (o + k)) := by
  unfold rowL
  rw [List.getD_eq_getElem?_getD, List.getElem?_map, List.getElem?_range (by omega)]
  show some (A (o + (k.toNat : Int))) = _
  rw [show (k.toNat : Int) = k by omega]
theorem rowL_snoc {A : Int → Nat} {o n : Int} (h0 : 0 ≤ n) : rowL A o (n + 1) = rowL A o n ++ [some (A (o + n))] := by
  unfold rowL
  rw [show (n + 1).toNat = n.toNat + 1 by omega, List.range_succ, List.map_append]
  show _ ++ [some (A (o + (n.toNat : Int)))] = _
  rw [show (n.toNat : Int) = n by omega]
theorem rowL_congr {A B : Int → Nat} {o n : Int} (e : ∀ k, 0 ≤ k → k < n → A (o + k) = B (o + k)) : rowL A o n = rowL B o n := by
  unfold rowL
  apply List.map_congr_left
  intro i hi
  have := List.mem_range.mp hi
  rw [e i (by omega) (by omega)]
/-- a reference to the kind of a number, or null -/
def optA (A : Int → Nat) (k : Int) : Option Nat := if k = -1 then none else some (A k)
/-- the kinds of a unit u: A their addresses, lk their list -/
def RK (v : vT) (u lk : Nat) (U : tSt) (w : Int) (A : Int → Nat) : Prop :=
  hK v.1 u = 5 ∧ hR v.1 u 0 = some lk ∧ hK v.1 lk = 4 ∧ vLs v lk = rowL A 0 (U 3 w) ∧ ∀ k, 0 ≤ k → k < U 3 w → hK v.1 (A k) = 7 ∧ hI v.1 (A k) 1 = iI k ∧ hI v.1 (A k) 3 = iI (U 5 (w * 16 + k)) ∧ hR v.1 (A k) 2 = optA A (par U w k)
