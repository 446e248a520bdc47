/-! COMPONENT, 129: a new unit (28): its first kinds *-/
/-- i kinds are there; O: their parents -/
def UNi (v : vT) (u n : Nat) (K : Nat → Nat) (O : Nat → Option Nat) (i : Nat) : Prop := UN0 v u n ∧ vLs v n = (List.range i).map (fun j => some (K j)) ∧ (∀ j, j < i → vMp v (n + 1) (cT j) = some (K j)) ∧ (∀ t, (∀ j, j < i → t ≠ cT j) → vMp v (n + 1) t = none) ∧
  (∀ j, j < i → hK v.1 (K j) = 7 ∧ hI v.1 (K j) 1 = iI j ∧ hR v.1 (K j) 2 = O j ∧ hI v.1 (K j) 3 = iI (-1)) ∧ (vLs v (n + 2) = [] ∧ vLs v (n + 4) = [] ∧ vLs v (n + 5) = [] ∧ vCp v (n + 5) = 0) ∧ ∀ t, vMp v (n + 3) t = none
section UNB
variable {u n r i : Nat} {h : am_H} {v v0 : vT} {K : Nat → Nat} {O : Nat → Option Nat} {o : Option Nat} {Q : am_O → am_H → Prop}
theorem UN0_fw {v' : vT} (f : Fw (fun b k => (b = n ∨ b = n + 1) ∧ k = 99) v v') (x : UN0 v u n) : UN0 v' u n := by
  obtain ⟨⟨k, r0, r1, r2, r3, r4, r5⟩, k0, k1, k2, k3, k4, k5⟩ := x
  have lu := hK_lt k (by decide)
  have ff : ∀ j, j ≠ 99 → hR v'.1 u j = hR v.1 u j := fun j hj => (f.ff lu (fun y => hj y.2)).2.2
  exact ⟨⟨f.kk k (by decide), by rw [ff 0 (by decide)]; exact r0, by rw [ff 1 (by decide)]; exact r1, by rw [ff 2 (by decide)]; exact r2, by rw [ff 3 (by decide)]; exact r3, by rw [ff 4 (by decide)]; exact r4, by rw [ff 5 (by decide)]; exact r5⟩, f.kk k0 (by decide), f.kk k1 (by decide), f.kk k2 (by decide), f.kk k3 (by decide), f.kk k4 (by decide), f.kk k5 (by decide)⟩
theorem cT_ne : ∀ i j : Nat, i < 4 → j < i → cT i ≠ cT j := by
  intro i j hi hj
  have : (i = 1 ∧ j = 0) ∨ (i = 2 ∧ j = 0) ∨ (i = 2 ∧ j = 1) ∨ (i = 3 ∧ j = 0) ∨ (i = 3 ∧ j = 1) ∨ (i = 3 ∧ j = 2) := by omega
  rcases this with ⟨rfl, rfl⟩ | ⟨rfl, rfl⟩ | ⟨rfl, rfl⟩ | ⟨rfl, rfl⟩ | ⟨rfl, rfl⟩ | ⟨rfl, rfl⟩ <;> decide
theorem cT_ok : ∀ i : Nat, i < 4 → okK (cT i) ∧ (cT i).length < 8 := by
  intro i hi
  have : i = 0 ∨ i = 1 ∨ i = 2 ∨ i = 3 := by omega
  rcases this with rfl | rfl | rfl | rfl <;> exact ⟨by unfold okK cT; decide, by decide⟩
theorem un_s (c : CR h v) (cs : CS v) (hi : i < 4) (x : UNi v u n K O i) (q : ∀ h' v', CR h' v' → CS v' → Fw (fun b k => (b = n ∨ b = n + 1) ∧ k = 99) v v' → UNi v' u n (fun j => if j = i then hN v.1 else K j) (fun j => if j = i then o else O j) (i + 1) → hN v'.1 ≤ hN v.1 + 22 → hS v.1 ≤ hS v'.1 → hS v'.1 ≤ hS v.1 + 400 → Q (Sum.inl (some (vR (some (hN v.1))))) h') : Cl (r + 1) 78 [vR (some u), vR (some (hE h i)), vR o, vI (-1)] h Q := by
  obtain ⟨un, ls, m1, m2, kk, ⟨e2, e4, e5, p5⟩, e3⟩ := x
  obtain ⟨⟨ku, r0, r1, _⟩, k0, k1, k2, k3, k4, k5⟩ := id un
  have he : hE h i = hE v.1 i := c.he
  obtain ⟨c1, c2⟩ := cs i (by omega)
  obtain ⟨ok1, ok2⟩ := cT_ok i hi
  have len : (vLs v n).length = i := by rw [ls, List.length_map, List.length_range]
  rw [he]
  refine c_uadd c ku r0 k0 r1 k1 (Or.inr ⟨c1, by rw [c2]; exact ok2⟩) (by rw [c2]; exact ok1) (by rw [c2]; omega) ⟨(List.range i).map cT, by rw [List.length_map, List.length_range]; omega, fun s z hz => ?_⟩ (by omega) (fun h' v' cr' f k7 ⟨f0, f1, f2, f3⟩ ls' mp' hn hs hs2 => ?_)
  · apply Classical.byContradiction
    intro hm
    rw [m2 s (fun j hj e => hm (by rw [e]; exact List.mem_map.mpr ⟨j, List.mem_range.mpr hj, rfl⟩))] at hz
    cases hz
  · have l0 := hK_lt k0 (by decide)
    have l1 := hK_lt k1 (by decide)
    have l2 := hK_lt k2 (by decide)
    have l3 := hK_lt k3 (by decide)
    have l4 := hK_lt k4 (by decide)
    have l5 := hK_lt k5 (by decide)
    have nt : ∀ j, j < i → j ≠ i := fun j hj => by omega
    refine q h' v' cr' (CS_fw f cs (fun a y => ?_)) f ⟨UN0_fw f un, ?_, fun j hj => ?_, fun t ht => ?_, fun j hj => ?_, ⟨?_, ?_, ?_, ?_⟩, fun t => ?_⟩ hn hs hs2
    · rcases y.1 with e | e
      · rw [e, k0]; decide
      · rw [e, k1]; decide
    · rw [ls', ls, List.range_succ, List.map_append]
      congr 1
      · apply List.map_congr_left
        intro j hj
        have := List.mem_range.mp hj
        show some (K j) = some (if j = i then hN v.1 else K j)
        rw [if_neg (nt j this)]
      · simp
    · show vMp v' (n + 1) (cT j) = some (if j = i then hN v.1 else K j)
      rw [mp', c2]
      by_cases e : j = i
      · rw [e, if_pos ⟨rfl, m2 _ (fun k hk => cT_ne i k hi hk)⟩, if_pos rfl]
      · rw [if_neg (fun y => by rw [m1 j (by omega)] at y; cases y.2), if_neg e]
        exact m1 j (by omega)
    · rw [mp', c2, if_neg (fun y => ht i (by omega) y.1)]
      exact m2 t (fun j hj => ht j (by omega))
    · show hK v'.1 (if j = i then hN v.1 else K j) = 7 ∧ hI v'.1 (if j = i then hN v.1 else K j) 1 = iI j ∧ hR v'.1 (if j = i then hN v.1 else K j) 2 = (if j = i then o else O j) ∧ hI v'.1 (if j = i then hN v.1 else K j) 3 = iI (-1)
      by_cases e : j = i
      · subst e
        rw [if_pos rfl, if_pos rfl]
        refine ⟨k7, ?_, f2, ?_⟩
        · rw [f1, len]
        · rw [f3]; rfl
      · obtain ⟨a1, a2, a3, a4⟩ := kk j (by omega)
        have la := hK_lt a1 (by decide)
        have g := fun y (hy : y ≠ 99) => f.ff (k := y) la (fun z => hy z.2)
        rw [if_neg e, if_neg e]
        exact ⟨f.kk a1 (by decide), by rw [(g 1 (by decide)).1]; exact a2, by rw [(g 2 (by decide)).2.2]; exact a3, by rw [(g 3 (by decide)).1]; exact a4⟩
    · rw [(f.cc l2 (fun y => by omega)).1]; exact e2
    · rw [(f.cc l4 (fun y => by omega)).1]; exact e4
    · rw [(f.cc l5 (fun y => by omega)).1]; exact e5
    · rw [(f.cc l5 (fun y => by omega)).2.2.1]; exact p5
    · rw [(f.cc l3 (fun y => by omega)).2.1]; exact e3 t
/-- new Unit() -/
theorem c_unit (c : CR h v) (ku : hK v.1 u = 5) (cs : CS v) (q : ∀ h' v' K O, CR h' v' → CS v' → Fw (fun b _ => b = u) v v' → UNi v' u (hN v.1) K O 4 → (O 0 = none ∧ O 1 = some (K 0) ∧ O 2 = some (K 1) ∧ O 3 = some (K 0)) → (∀ j, j < 4 → hN v.1 + 6 ≤ K j) → hN v'.1 ≤ hN v.1 + 94 → hS v.1 ≤ hS v'.1 → hS v'.1 ≤ hS v.1 + 1628 → Q (Sum.inl none) h') : Cl (r + 1) 28 [vR (some u)] h Q := by
  refine un_a c ku (fun h1 v1 c1 f1 un ⟨a0, a2, a4, a5, a6⟩ mp n1 s1 => ?_)
  have lu := hK_lt ku (by decide)
  have cs1 : CS v1 := CS_fw f1 cs (fun a y => by rw [y, ku]; decide)
  have x0 : UNi v1 u (hN v.1) (fun _ => 0) (fun _ => none) 0 := ⟨un, a0, fun j hj => by omega, fun t _ => (mp t).1, fun j hj => by omega, ⟨a2, a4, a5, a6⟩, fun t => (mp t).2⟩
  rw [sX3_init_70, sX3_init_71, sX3_init_73, sX3_init_74, sX3_init_75 (c1.kk un.1.1 (by decide))]
  refine un_s (i := 0) c1 cs1 (by omega) x0 (fun h2 v2 c2 cs2 f2 x2 n2 s2 t2 => ?_)
  have ku2 := x2.1.1.1
  rw [Kt_v, sX3_init_78, sX3_init_79, sX3_init_80, sX3_init_82, sX3_init_83, sX3_init_84 (c2.kk ku2 (by decide))]
  refine un_s (i := 1) c2 cs2 (by omega) x2 (fun h3 v3 c3 cs3 f3 x3 n3 s3 t3 => ?_)
  have ku3 := x3.1.1.1
  rw [Kt_v, sX3_init_87, sX3_init_88, sX3_init_89, sX3_init_91, sX3_init_92, sX3_init_93 (c3.kk ku3 (by decide))]
  refine un_s (i := 2) c3 cs3 (by omega) x3 (fun h4 v4 c4 cs4 f4 x4 n4 s4 t4 => ?_)
  have ku4 := x4.1.1.1
  rw [Kt_v, sX3_init_96, sX3_init_97, sX3_init_98, sX3_init_100, sX3_init_101, sX3_init_102 (c4.kk ku4 (by decide))]
  refine un_s (i := 3) c4 cs4 (by omega) x4 (fun h5 v5 c5 cs5 f5 x5 n5 s5 t5 => ?_)
  rw [Kt_v, sX3_init_105, sX3_init_106]
  have m : ∀ (a k : Nat), ((a = hN v.1 ∨ a = hN v.1 + 1) ∧ k = 99) → hN v.1 ≤ a ∨ a = u := fun a k y => by omega
  have ff := (((f1.tr2 f2 m).tr2 f3 m).tr2 f4 m).tr2 f5 m
  have q2 := f2.1
  have q3 := f3.1
  have q4 := f4.1
  refine q h5 v5 _ _ c5 cs5 ff x5 ⟨rfl, rfl, rfl, rfl⟩ (fun j hj => ?_) (by omega) (by omega) (by omega)
  have : j = 0 ∨ j = 1 ∨ j = 2 ∨ j = 3 := by omega
  rcases this with rfl | rfl | rfl | rfl
  · show hN v.1 + 6 ≤ hN v1.1; omega
  · show hN v.1 + 6 ≤ hN v2.1; omega
  · show hN v.1 + 6 ≤ hN v3.1; omega
  · show hN v.1 + 6 ≤ hN v4.1; omega
end UNB
