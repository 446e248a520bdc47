/-! JDK: maps, 8: a new leaf is put into a tree *-/
/-- a new node -/
def ndNew (h : am_H) (c l : Nat) (hs : Int32) (a z nx : Option Nat) : am_H := putR (putR (putR (putI (newC h c l) (hN h) 0 hs) (hN h) 1 a) (hN h) 2 z) (hN h) 3 nx
/-- the nodes B of a bin, its place in the table, and new cells change -/
def BCh (B : Nat → Prop) (t ix : Nat) (h h' : am_H) : Prop := hN h ≤ hN h' ∧ (∀ k, hE h' k = hE h k) ∧ ∀ b, b < hN h → hK h' b = hK h b ∧ hL h' b = hL h b ∧ (∀ k, hJ h' b k = hJ h b k) ∧ (∀ k, ¬ (B b ∧ k = 8) → hI h' b k = hI h b k) ∧ (∀ k, ¬ (b = t ∧ k = ix) → ¬ (B b ∧ 3 ≤ k ∧ k ≤ 7) → hR h' b k = hR h b k)
section PIN
variable {B B' : Nat → Prop} {h h' h'' : am_H} {v : vT} {r m t a b rt ix c l k : Nat} {z nx : Option Nat} {lo hi : Nat → Int} {Q : am_O → am_H → Prop} {T : List Int32} {hs : Int32}
theorem nd_new13 (km : hK h m = 6) : Cl r 259 [vR (some m), vI hs, vR (some a), vR z, vR nx] h Q ↔ Q (Sum.inl (some (vR (some (hN h))))) (ndNew h 13 11 hs (some a) z nx) := by
  have k0 : hK (newC h 13 11) (hN h) = 13 := by rw [hK_newC, if_pos rfl]
  have k1 : hK (putI (newC h 13 11) (hN h) 0 hs) (hN h) = 13 := k0
  have k2 : hK (putR (putI (newC h 13 11) (hN h) 0 hs) (hN h) 1 (some a)) (hN h) = 13 := k0
  have k3 : hK (putR (putR (putI (newC h 13 11) (hN h) 0 hs) (hN h) 1 (some a)) (hN h) 2 z) (hN h) = 13 := k0
  rw [eJ7_newTreeNode, sJ7_newTreeNode_0, sJ7_newTreeNode_3, sJ7_newTreeNode_4, sJ7_newTreeNode_5, sJ7_newTreeNode_6, sJ7_newTreeNode_7, sJ7_newTreeNode_9 (by omega) (by omega), eJ21_init, sJ21_init_0, sJ21_init_1, sJ21_init_2, sJ21_init_3, sJ21_init_4, sJ21_init_6 (by omega) (by omega), eJ20_init, sJ20_init_0, sJ20_init_1, sJ20_init_2, sJ20_init_3, sJ20_init_4, sJ20_init_6 (by omega) (by omega), eJ19_init, sJ19_init_0, sJ19_init_1, sJ19_init_4, sJ19_init_5, sJ19_init_6 (by omega) (by omega), sJ19_init_9, sJ19_init_10, sJ19_init_11 (by omega) (by omega), sJ19_init_14, sJ19_init_15, sJ19_init_16 (by omega) (by omega), sJ19_init_19, sJ19_init_20, sJ19_init_22 (by omega) (by omega), sJ19_init_25, Kt_0, sJ20_init_9, Kt_0, sJ21_init_9, Kt_0, sJ7_newTreeNode_12]
  rfl
theorem nd_new12 (km : hK h m = 6) : Cl r 207 [vR (some m), vI hs, vR (some a), vR z, vR nx] h Q ↔ Q (Sum.inl (some (vR (some (hN h))))) (ndNew h 12 4 hs (some a) z nx) := by
  have k0 : hK (newC h 12 4) (hN h) = 12 := by rw [hK_newC, if_pos rfl]
  have k1 : hK (putI (newC h 12 4) (hN h) 0 hs) (hN h) = 12 := k0
  have k2 : hK (putR (putI (newC h 12 4) (hN h) 0 hs) (hN h) 1 (some a)) (hN h) = 12 := k0
  have k3 : hK (putR (putR (putI (newC h 12 4) (hN h) 0 hs) (hN h) 1 (some a)) (hN h) 2 z) (hN h) = 12 := k0
  rw [eJ7_newNode, sJ7_newNode_0, sJ7_newNode_3, sJ7_newNode_4, sJ7_newNode_5, sJ7_newNode_6, sJ7_newNode_7, sJ7_newNode_9 (by omega) (by omega), eJ19_init, sJ19_init_0, sJ19_init_1, sJ19_init_4, sJ19_init_5, sJ19_init_6 (by omega) (by omega), sJ19_init_9, sJ19_init_10, sJ19_init_11 (by omega) (by omega), sJ19_init_14, sJ19_init_15, sJ19_init_16 (by omega) (by omega), sJ19_init_19, sJ19_init_20, sJ19_init_22 (by omega) (by omega), sJ19_init_25, Kt_0, sJ7_newNode_12]
  rfl
theorem hN_nd : hN (ndNew h c l hs nx z nx) = hN h + 1 := rfl
theorem hK_nd {x y w : Option Nat} (q : b ≠ hN h) : hK (ndNew h c l hs x y w) b = hK h b := by unfold ndNew; rw [hK_putR, hK_putR, hK_putR, hK_putI, hK_newC, if_neg q]
theorem hK_ndn {x y w : Option Nat} : hK (ndNew h c l hs x y w) (hN h) = c := by unfold ndNew; rw [hK_putR, hK_putR, hK_putR, hK_putI, hK_newC, if_pos rfl]
theorem hL_nd {x y w : Option Nat} (q : b ≠ hN h) : hL (ndNew h c l hs x y w) b = hL h b := by unfold ndNew; rw [hL_putR, hL_putR, hL_putR, hL_putI, hL_newC, if_neg q]
theorem hI_nd {x y w : Option Nat} (q : b ≠ hN h) : hI (ndNew h c l hs x y w) b k = hI h b k := by unfold ndNew; rw [hI_putR, hI_putR, hI_putR, hI_putI, if_neg (am_ne q), hI_newC, if_neg q]
theorem hI_ndn {x y w : Option Nat} : hI (ndNew h c l hs x y w) (hN h) 0 = hs := by unfold ndNew; rw [hI_putR, hI_putR, hI_putR, hI_putI, if_pos ⟨rfl, rfl⟩]
theorem hJ_nd {x y w : Option Nat} (q : b ≠ hN h) : hJ (ndNew h c l hs x y w) b k = hJ h b k := by unfold ndNew; rw [hJ_putR, hJ_putR, hJ_putR, hJ_putI, hJ_newC, if_neg q]
theorem hR_nd {x y w : Option Nat} (q : b ≠ hN h) : hR (ndNew h c l hs x y w) b k = hR h b k := by unfold ndNew; rw [hR_putR, if_neg (am_ne q), hR_putR, if_neg (am_ne q), hR_putR, if_neg (am_ne q), hR_putI, hR_newC, if_neg q]
theorem hR_ndn {x y w : Option Nat} : hR (ndNew h c l hs x y w) (hN h) k = if k = 3 then w else if k = 2 then y else if k = 1 then x else none := by
  unfold ndNew
  rw [hR_putR]
  by_cases q3 : k = 3
  · rw [if_pos ⟨rfl, q3⟩, if_pos q3]
  · rw [if_neg (fun e => q3 e.2), if_neg q3, hR_putR]
    by_cases q2 : k = 2
    · rw [if_pos ⟨rfl, q2⟩, if_pos q2]
    · rw [if_neg (fun e => q2 e.2), if_neg q2, hR_putR]
      by_cases q1 : k = 1
      · rw [if_pos ⟨rfl, q1⟩, if_pos q1]
      · rw [if_neg (fun e => q1 e.2), if_neg q1, hR_putI, hR_newC, if_pos rfl]
theorem BCh.refl : BCh B t ix h h := ⟨Nat.le_refl _, fun _ => rfl, fun _ _ => ⟨rfl, rfl, fun _ => rfl, fun _ _ => rfl, fun _ _ _ => rfl⟩⟩
theorem BCh.trans (c : BCh B t ix h h') (d : BCh B t ix h' h'') : BCh B t ix h h'' := by
  obtain ⟨c1, c2, c3⟩ := c
  obtain ⟨d1, d2, d3⟩ := d
  refine ⟨by omega, fun k => (d2 k).trans (c2 k), fun b hb => ?_⟩
  obtain ⟨x1, x2, x3, x4, x5⟩ := c3 b hb
  obtain ⟨y1, y2, y3, y4, y5⟩ := d3 b (by omega)
  exact ⟨y1.trans x1, y2.trans x2, fun k => (y3 k).trans (x3 k), fun k q => (y4 k q).trans (x4 k q), fun k q p => (y5 k q p).trans (x5 k q p)⟩
theorem BCh.mono (m : ∀ x, B x → B' x) (c : BCh B t ix h h') : BCh B' t ix h h' := by
  obtain ⟨c1, c2, c3⟩ := c
  refine ⟨c1, c2, fun b hb => ?_⟩
  obtain ⟨x1, x2, x3, x4, x5⟩ := c3 b hb
  exact ⟨x1, x2, x3, fun k q => x4 k (fun w => q ⟨m b w.1, w.2⟩), fun k q p => x5 k q (fun w => p ⟨m b w.1, w.2⟩)⟩
theorem BCh.ofT (c : TCh B h h') : BCh B t ix h h' := by
  obtain ⟨c1, c2, c3, c4, c5⟩ := c
  refine ⟨by unfold hN; rw [c1]; exact Nat.le_refl _, fun k => by unfold hE; rw [c1], fun b hb => ⟨by unfold hK; rw [c1, c2], by unfold hL; rw [c2], fun k => c3 b k, fun k q => c4 b k q, fun k _ p => c5 b k (fun w => p ⟨w.1, by omega, by omega⟩)⟩⟩
theorem BCh.ofM (c : MCh t ix B h h') : BCh B t ix h h' := by
  obtain ⟨c1, c2, c3, c4, c5⟩ := c
  refine ⟨by unfold hN; rw [c1]; exact Nat.le_refl _, fun k => by unfold hE; rw [c1], fun b hb => ⟨by unfold hK; rw [c1, c2], by unfold hL; rw [c2], fun k => c3 b k, fun k _ => c4 b k, fun k q p => c5 b k q (fun w => p ⟨w.1, by omega, by omega⟩)⟩⟩
theorem BCh.pR (hb : B a) (h3 : 3 ≤ k) (h7 : k ≤ 7) : BCh B t ix h (putR h a k z) := ⟨Nat.le_refl _, fun _ => rfl, fun b _ => ⟨rfl, rfl, fun _ => rfl, fun _ _ => rfl, fun j _ p => by rw [hR_putR, if_neg (fun w => p ⟨by rw [w.1]; exact hb, by omega, by omega⟩)]⟩⟩
theorem BCh.pT : BCh B t ix h (putR h t ix z) := ⟨Nat.le_refl _, fun _ => rfl, fun b _ => ⟨rfl, rfl, fun _ => rfl, fun _ _ => rfl, fun j q _ => by rw [hR_putR, if_neg q]⟩⟩
theorem BCh.nd {x y w : Option Nat} : BCh B t ix h (ndNew h c l hs x y w) := ⟨by show hN h ≤ hN h + 1; omega, fun _ => rfl, fun b hb => ⟨hK_nd (by omega), hL_nd (by omega), fun _ => hJ_nd (by omega), fun _ _ => hI_nd (by omega), fun _ _ _ => hR_nd (by omega)⟩⟩
theorem tR_congr {r : Nat} {K K' : Nat → Int} {P L R P' L' R' : Nat → Option Nat} (e : ∀ x, B x → K' x = K x ∧ P' x = P x ∧ L' x = L x ∧ R' x = R x) (t : tR B r K P L R lo hi) : tR B r K' P' L' R' lo hi := by
  obtain ⟨t1, t2, t3, t4, t5, t6, t7⟩ := t
  refine ⟨t1, by rw [(e r t1).2.1]; exact t2, fun x hx => by rw [(e x hx).1]; exact t3 x hx, fun x hx => by rw [(e x hx).1]; exact t4 x hx, fun x y hx q => ?_, fun x y hx q => ?_, fun y hy => ?_⟩
  · rw [(e x hx).2.2.1] at q
    have w := t5 x y hx q
    rw [(e y w.1).2.1, (e x hx).1]
    exact w
  · rw [(e x hx).2.2.2] at q
    have w := t6 x y hx q
    rw [(e y w.1).2.1, (e x hx).1]
    exact w
  · rcases t7 y hy with w | ⟨x, w1, w2, w3⟩
    · exact Or.inl w
    · exact Or.inr ⟨x, w1, by rw [(e y hy).2.1]; exact w2, by rw [(e x w1).2.2.1, (e x w1).2.2.2]; exact w3⟩
end PIN
