/-! THE VIEW, 2: what is hidden in one cell stays as it is while another one changes *-/
/-- a change of the cells that a owns alone, and new cells -/
def Chg (g g' : Nat → Nat) (h h' : am_H) (a : Nat) : Prop :=
  hN h ≤ hN h' ∧ (∀ k, hE h' k = hE h k) ∧ ∀ b, b < hN h → g' b = g b ∧ hK h' b = hK h b ∧ hL h' b = hL h b ∧ (g b ≠ a → ∀ k, hI h' b k = hI h b k ∧ hJ h' b k = hJ h b k ∧ hR h' b k = hR h b k)
/-- the view of all cells but a is the same -/
def Vch (v v' : vT) (n a : Nat) : Prop :=
  ∀ b, b < n → hK v'.1 b = hK v.1 b ∧ ((hK v.1 b = 10 ∨ hK v.1 b = 11) → vTx v' b = vTx v b) ∧ (b ≠ a → hL v'.1 b = hL v.1 b ∧ (∀ k, hI v'.1 b k = hI v.1 b k ∧ hJ v'.1 b k = hJ v.1 b k ∧ hR v'.1 b k = hR v.1 b k) ∧ vLs v' b = vLs v b ∧ vTx v' b = vTx v b ∧ vMp v' b = vMp v b ∧ vCp v' b = vCp v b)
section VL
variable {g g' : Nat → Nat} {h h' : am_H} {v v' : vT} {a a0 b m c n : Nat} {T : List Int32} {L : List (Option Nat)}
theorem Chg.own (C : Chg g g' h h' a0) (la : a < hN h) (ne : g a ≠ a0) (k : Nat) : hI h' a k = hI h a k ∧ hJ h' a k = hJ h a k ∧ hR h' a k = hR h a k := (C.2.2 a la).2.2.2 ne k
theorem isTx_l (C : Chg g g' h h' a0) (hs : ¬ shr (hK h a0)) (ne : a ≠ a0) (ga : g a = a) (la : a < hN h) (t : isTx g h c T a) : isTx g' h' c T a := by
  obtain ⟨⟨b, b1, b2, b3, b4, b5⟩, t2⟩ := t
  have nb : g b ≠ a0 := by
    rcases b3 with ⟨_, z⟩ | ⟨_, y, z⟩
    · rw [z]; exact ne
    · rw [z]; intro e; rw [e] at y; exact hs (Or.inl y)
  have ea := fun k => C.own la (by rw [ga]; exact ne) k
  have eb := fun k => C.own b2 nb k
  have cb := C.2.2 b b2
  refine ⟨⟨b, by rw [(ea 0).2.2]; exact b1, Nat.lt_of_lt_of_le b2 C.1, by rw [cb.1, cb.2.1]; exact b3, by rw [cb.2.2.1]; exact b4, fun i hi => by rw [(eb i).1]; exact b5 i hi⟩, ?_⟩
  rw [(ea 1).1, (ea 2).1, (ea 3).1]
  exact t2
theorem isSb_l (C : Chg g g' h h' a0) (ne : a ≠ a0) (ga : g a = a) (la : a < hN h) (t : isSb g h T a) : isSb g' h' T a := by
  obtain ⟨⟨b, b1, b2, b3, b4, b5, b6, b7⟩, t2⟩ := t
  have ea := fun k => C.own la (by rw [ga]; exact ne) k
  have eb := fun k => C.own b2 (by rw [b4]; exact ne) k
  have cb := C.2.2 b b2
  refine ⟨⟨b, by rw [(ea 0).2.2]; exact b1, Nat.lt_of_lt_of_le b2 C.1, by rw [cb.2.1]; exact b3, by rw [cb.1]; exact b4, by rw [cb.2.2.1]; exact b5, by rw [cb.2.2.1]; exact b6, fun i hi => by rw [(eb i).1]; exact b7 i hi⟩, ?_⟩
  rw [(ea 1).1, (ea 3).1]
  exact t2
theorem isLs_l (C : Chg g g' h h' a0) (hs : ¬ shr (hK h a0)) (ne : a ≠ a0) (ga : g a = a) (la : a < hN h) (t : isLs g h L c a) : isLs g' h' L c a := by
  obtain ⟨e, e1, e2, e3, e4, e5, e6, e7, e8⟩ := t
  have ne2 : g e ≠ a0 := by
    rcases e3 with ⟨_, z⟩ | ⟨y, z, _⟩
    · rw [z]; exact ne
    · rw [z]; intro q; rw [q] at y; exact hs (Or.inr (Or.inl y))
  have ea := fun k => C.own la (by rw [ga]; exact ne) k
  have eb := fun k => C.own e2 ne2 k
  have cb := C.2.2 e e2
  refine ⟨e, by rw [(ea 1).2.2]; exact e1, Nat.lt_of_lt_of_le e2 C.1, by rw [cb.1, cb.2.1, C.2.1]; exact e3, by rw [(ea 2).1]; exact e4, by rw [cb.2.2.1]; exact e5, e6, e7, fun i hi => by rw [(eb i).2.2]; exact e8 i hi⟩
theorem chn_l {xs : List Nat} : ∀ {o : Option Nat}, (∀ x, x ∈ xs → hR h' x 3 = hR h x 3) → chn h o xs → chn h' o xs := by
  induction xs with
  | nil => exact fun _ c => c
  | cons x l ih =>
    intro o e c
    exact ⟨c.1, by rw [e x (List.mem_cons_self ..)]; exact ih (fun y hy => e y (List.mem_cons_of_mem _ hy)) c.2⟩
/-- nodes that are as they were -/
def sameN (h h' : am_H) (v v' : vT) (x : Nat) : Prop := hK h' x = hK h x ∧ (∀ k, hI h' x k = hI h x k ∧ hR h' x k = hR h x k) ∧ ndT h' v' x = ndT h v x
theorem sameN.nn {x : Nat} (e : sameN h h' v v' x) : ndN h' v' x = ndN h v x := by
  unfold ndN
  rw [e.2.2, (e.2.1 0).1]
theorem isLB_l {n : Nat} {o : Option Nat} {NS : List Nat} {i : Nat} (e : ∀ x, x ∈ NS → sameN h h' v v' x) (t : isLB h n o NS i) : isLB h' n o NS i := by
  obtain ⟨xs, c, d, k, q⟩ := t
  have ex : ∀ x, x ∈ xs → x ∈ NS := fun x hx => ((q x).mp hx).1
  refine ⟨xs, chn_l (fun x hx => ((e x (ex x hx)).2.1 3).2) c, d, fun x hx => by rw [(e x (ex x hx)).1]; exact k x hx, fun x => ?_⟩
  rw [q x]
  constructor
  · rintro ⟨z1, z2⟩
    exact ⟨z1, by rw [((e x z1).2.1 0).1]; exact z2⟩
  · rintro ⟨z1, z2⟩
    exact ⟨z1, by rw [((e x z1).2.1 0).1] at z2; exact z2⟩
theorem isTr_l {B : Nat → Prop} {r : Nat} {lo hi : Nat → Int} (e : ∀ x, B x → sameN h h' v v' x) (t : isTr h v B r lo hi) : isTr h' v' B r lo hi := by
  obtain ⟨t1, t2, t3, t4, t5, t6, t7⟩ := t
  refine ⟨t1, by rw [((e r t1).2.1 4).2]; exact t2, fun x hx => by rw [(e x hx).nn]; exact t3 x hx, fun x hx => by rw [(e x hx).nn, (e x hx).1]; exact t4 x hx, fun x y hx q => ?_, fun x y hx q => ?_, fun y hy => ?_⟩
  · rw [((e x hx).2.1 5).2] at q
    have z := t5 x y hx q
    rw [((e y z.1).2.1 4).2, (e x hx).nn]
    exact z
  · rw [((e x hx).2.1 6).2] at q
    have z := t6 x y hx q
    rw [((e y z.1).2.1 4).2, (e x hx).nn]
    exact z
  · rcases t7 y hy with z | ⟨x, z1, z2, z3⟩
    · exact Or.inl z
    · exact Or.inr ⟨x, z1, by rw [((e y hy).2.1 4).2]; exact z2, by rw [((e x z1).2.1 5).2, ((e x z1).2.1 6).2]; exact z3⟩
theorem isNb_l {B : Nat → Prop} (e : ∀ x, B x → sameN h h' v v' x) (t : isNb h B) : isNb h' B := by
  intro x y hx q
  rw [((e x hx).2.1 3).2, ((e x hx).2.1 7).2] at q
  exact t x y hx q
theorem bEq {NS : List Nat} {i : Nat} (e : ∀ x, x ∈ NS → sameN h h' v v' x) : (fun x => x ∈ NS ∧ bIx 64 (hI h' x 0) = i) = (fun x => x ∈ NS ∧ bIx 64 (hI h x 0) = i) := by
  funext x
  apply propext
  constructor
  · rintro ⟨z1, z2⟩
    exact ⟨z1, by rw [((e x z1).2.1 0).1] at z2; exact z2⟩
  · rintro ⟨z1, z2⟩
    exact ⟨z1, by rw [((e x z1).2.1 0).1]; exact z2⟩
theorem isTB_l {o : Option Nat} {NS : List Nat} {i : Nat} (e : ∀ x, x ∈ NS → sameN h h' v v' x) (t : isTB h v o NS i) : isTB h' v' o NS i := by
  obtain ⟨r, lo, hi, t1, t2, t3, t4⟩ := t
  refine ⟨r, lo, hi, t1, ?_, ?_, by rw [((e r t2.1.1).2.1 3).2]; exact t4.1, t4.2⟩
  · rw [bEq e]; exact isTr_l (fun x hx => e x hx.1) t2
  · rw [bEq e]; exact isNb_l (v := v) (v' := v') (fun x hx => e x hx.1) t3
theorem isNd_l {x : Nat} (C : Chg g g' h h' a0) (V : Vch v v' (hN h) a0) (ne : m ≠ a0) (lm : m < hN h) (t : isNd g h v m x) : isNd g' h' v' m x ∧ sameN h h' v v' x := by
  obtain ⟨n1, n2, n3, k, z, n4, n5, n6, n7, n8, n9, n10⟩ := t
  have ex := fun k => C.own n2 (by rw [n1]; exact ne) k
  have cx := C.2.2 x n2
  have ek := V k n5
  have n6' : hK v.1 k = 10 ∨ hK v.1 k = 11 := by omega
  have em := (V m lm).2.2 ne
  refine ⟨⟨by rw [cx.1]; exact n1, Nat.lt_of_lt_of_le n2 C.1, by rw [cx.2.1]; exact n3, k, z, by rw [(ex 1).2.2]; exact n4, Nat.lt_of_lt_of_le n5 C.1, by rw [ek.1, ek.2.1 n6']; exact n6, by rw [ek.2.1 n6']; exact n7, by rw [(ex 0).1, ek.2.1 n6']; exact n8, by rw [(ex 2).2.2]; exact n9, ?_⟩, cx.2.1, fun k => ⟨(ex k).1, (ex k).2.2⟩, ?_⟩
  · rw [ek.2.1 n6', em.2.2.2.2.1]; exact n10
  · unfold ndT
    rw [(ex 1).2.2, n4]
    exact ek.2.1 n6'
theorem isTb_l {t : Nat} {NS : List Nat} (C : Chg g g' h h' a0) (ne : m ≠ a0) (e : ∀ x, x ∈ NS → sameN h h' v v' x) (q : isTb g h v m t n NS) : isTb g' h' v' m t n NS := by
  obtain ⟨q1, q2, q3, q4, q5⟩ := q
  have ct := C.2.2 t q3
  have et := fun k => C.own q3 (by rw [q2]; exact ne) k
  refine ⟨by rw [ct.2.1]; exact q1, by rw [ct.1]; exact q2, Nat.lt_of_lt_of_le q3 C.1, by rw [ct.2.2.1]; exact q4, fun i hi => ?_⟩
  rw [(et i).2.2]
  rcases q5 i hi with z | ⟨z1, z2⟩
  · exact Or.inl (isLB_l e z)
  · exact Or.inr ⟨z1, isTB_l e z2⟩
theorem isMp_l (C : Chg g g' h h' a0) (V : Vch v v' (hN h) a0) (ne : m ≠ a0) (lm : m < hN h) (gm : g m = m) (t : isMp g h v m) : isMp g' h' v' m := by
  obtain ⟨NS, t1, t2, t3, t4, t5, t6, t7⟩ := t
  have em := fun k => C.own lm (by rw [gm]; exact ne) k
  have e : ∀ x, x ∈ NS → sameN h h' v v' x := fun x hx => (isNd_l C V ne lm (t4 x hx)).2
  have vm := (V m lm).2.2 ne
  refine ⟨NS, t1, t2, by rw [(em 4).1]; exact t3, fun x hx => (isNd_l C V ne lm (t4 x hx)).1, fun x y hx hy q => t5 x y hx hy (by rw [(e x hx).2.2, (e y hy).2.2] at q; exact q), fun s z q => ?_, ?_⟩
  · rw [vm.2.2.2.2.1] at q
    obtain ⟨x, x1, x2⟩ := t6 s z q
    exact ⟨x, x1, by rw [(e x x1).2.2]; exact x2⟩
  · rw [(em 2).2.2, (em 6).1]
    rcases t7 with z | ⟨t, n, z1, z2, z3, z4, z5⟩
    · exact Or.inl z
    · exact Or.inr ⟨t, n, z1, z2, z3, z4, isTb_l C ne e z5⟩
theorem VO_l (C : Chg g g' h h' a0) (V : Vch v v' (hN h) a0) (hs : ¬ shr (hK h a0)) (la : a < hN h) (ne : a ≠ a0) (t : VO g h v a) : VO g' h' v' a := by
  obtain ⟨t1, t2, t3, t4, t5, t6⟩ := t
  have ca := C.2.2 a la
  have va := V a la
  have v2 := va.2.2 ne
  refine ⟨fun q => ?_, fun q1 q2 => ?_, fun q => ?_, fun q => ?_, fun q => ?_, fun q => ?_⟩
  · rw [va.1] at q ⊢
    rw [ca.1, ca.2.1]
    exact t1 q
  · rw [va.1] at q1 q2
    have z := t2 q1 q2
    have ea := fun k => C.own la (by rw [(t1 q1).1]; exact ne) k
    rw [ca.2.2.1, v2.1]
    refine ⟨z.1, fun k => ?_⟩
    rw [(ea k).1, (ea k).2.1, (ea k).2.2, (v2.2.1 k).1, (v2.2.1 k).2.1, (v2.2.1 k).2.2]
    exact z.2 k
  · rw [va.1] at q
    rw [v2.2.2.1, v2.2.2.2.2.2]
    exact isLs_l C hs ne (t1 (by omega)).1 la (t3 q)
  · rw [va.1] at q
    exact isMp_l C V ne la (t1 (by omega)).1 (t4 q)
  · rw [va.1] at q ⊢
    rw [v2.2.2.2.1]
    exact isTx_l C hs ne (t1 (by omega)).1 la (t5 q)
  · rw [va.1] at q
    rw [v2.2.2.2.1]
    exact isSb_l C ne (t1 (by omega)).1 la (t6 q)
theorem VC_l (C : Chg g g' h h' a0) (V : Vch v v' (hN h) a0) (hs : ¬ shr (hK h a0)) (h9 : hK h a0 ≠ 9) (h23 : hK h a0 ≠ 23) (t : VC g h v) : VC g' h' v' := by
  obtain ⟨⟨t1, t2, t3⟩, ⟨t4, t5, t6, t7⟩, t8⟩ := t
  have l1 : hE h 31 < hN h := hK_lt t1 (by decide)
  have l2 : hE h 32 < hN h := hK_lt t4 (by decide)
  have c1 := C.2.2 _ l1
  have c2 := C.2.2 _ l2
  have n2 : g (hE h 32) ≠ a0 := by
    rw [t6]; intro q; rw [q] at t4; exact hs (Or.inr (Or.inr t4))
  unfold VC
  rw [C.2.1, C.2.1]
  refine ⟨⟨by rw [c1.2.1]; exact t1, by rw [c1.2.2.1]; exact t2, by rw [c1.1]; exact t3⟩, ⟨by rw [c2.2.1]; exact t4, by rw [c2.2.2.1]; exact t5, by rw [c2.1]; exact t6, fun i hi => ?_⟩, rfl⟩
  obtain ⟨c, d1, d2, d3, d4, d5, d6⟩ := t7 i hi
  have lc : c < hN h := hK_lt d2 (by decide)
  have cc := C.2.2 c lc
  refine ⟨c, by rw [(C.own l2 n2 i).2.2]; exact d1, by rw [cc.2.1]; exact d2, by rw [cc.1]; exact d3, ?_, by rw [(V c lc).1]; exact d5, ?_⟩
  · rw [(C.own lc (by rw [d3]; intro q; rw [q] at d2; exact h9 d2) 0).1]
    exact d4
  · rw [(((V c lc).2.2 (by intro q; rw [q] at d2; exact h9 d2)).2.1 0).1]
    exact d6
/-- a change of one cell (old or new) with what is hidden in it -/
theorem CRg_up (c : CRg g h v) (C : Chg g g' h h' a0) (V : Vch v v' (hN h) a0) (hs : ¬ shr (hK h a0)) (h9 : hK h a0 ≠ 9) (h23 : hK h a0 ≠ 23) (e1 : hN v'.1 = hN h') (e2 : hS v'.1 = hS h') (e3 : ∀ k, hE v'.1 k = hE h' k)
    (w : ∀ b, b < hN h' → (b = a0 ∨ hN h ≤ b) → VO g' h' v' b) : CRg g' h' v' := by
  obtain ⟨c1, c2, c3, c4, c5⟩ := c
  refine ⟨e1, e2, e3, VC_l C V hs h9 h23 c4, fun a la => ?_⟩
  by_cases q : a = a0 ∨ hN h ≤ a
  · exact w a la q
  · exact VO_l C V hs (by omega) (fun z => q (Or.inl z)) (c5 a (by omega))
end VL
