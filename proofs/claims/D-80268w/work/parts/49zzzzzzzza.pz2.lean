/-! PURE: blocks and statements name one another, 2: a statement more *-/
section PZT
variable {w b s x : Int} {S S' U U' : tSt} {f : Nat}
theorem stL_in {p : Int → Bool} {k : Int} : k ∈ stL U w p ↔ As w U k ∧ p k = true := by
  unfold stL
  rw [List.mem_filter, List.mem_map]
  constructor
  · rintro ⟨⟨j, hj, rfl⟩, h⟩
    have := List.mem_range.mp hj
    exact ⟨⟨by omega, by omega⟩, h⟩
  · rintro ⟨⟨h1, h2⟩, h⟩
    exact ⟨⟨(k - w * 120).toNat, List.mem_range.mpr (by omega), by omega⟩, h⟩
theorem stB_in {k : Int} : k ∈ stB U w b ↔ As w U k ∧ U 22 k = b := by
  unfold stB
  rw [stL_in]
  simp
theorem stL_lt {p : Int → Bool} : (stL U w p).Pairwise (fun a b => a < b) := by
  unfold stL
  refine List.Pairwise.filter _ (List.Pairwise.map _ (fun a b h => ?_) List.pairwise_lt_range)
  omega
theorem stL_nodup {p : Int → Bool} : (stL U w p).Nodup := stL_lt.imp (fun h => by omega)
theorem stL_ent {p p' : Int → Bool} (e19 : U' 19 w = U 19 w + 1) (h0 : 0 ≤ U 19 w) (h : ∀ k, As w U k → p' k = p k) : stL U' w p' = stL U w p ++ (if p' (w * 120 + U 19 w) = true then [w * 120 + U 19 w] else []) := by
  unfold stL
  rw [e19, show (U 19 w + 1).toNat = (U 19 w).toNat + 1 by omega, List.range_succ, List.map_append, List.filter_append, List.map_singleton, show ((U 19 w).toNat : Int) = U 19 w by omega]
  congr 1
  · refine List.filter_congr (fun k hk => ?_)
    obtain ⟨i, hi, e2⟩ := List.mem_map.mp hk
    have hi' := List.mem_range.mp hi
    exact h k ⟨by omega, by omega⟩
  · by_cases z : p' (w * 120 + U 19 w) = true
    · rw [if_pos z, List.filter_cons_of_pos z]; rfl
    · rw [if_neg z, List.filter_cons_of_neg z]; rfl
theorem getLast_in {L : List Int} {d : Int} (h : L ≠ []) : L.getLastD d ∈ L := by
  cases L with
  | nil => exact absurd rfl h
  | cons a L =>
    rw [List.getLastD_cons]
    exact List.getLastD_mem_cons
theorem isCh_sn {e : Int} : ∀ (L : List Int) (a : Int), L.Nodup → isCh U a L → L ≠ [] → L.getLastD (-1) = e → U' 24 e = s → U' 24 s = -1 → (∀ t, t ∈ L → t ≠ e → U' 24 t = U 24 t) → isCh U' a (L ++ [s]) := by
  intro L
  induction L with
  | nil => intro a _ _ h; exact absurd rfl h
  | cons t L ih =>
    intro a nd h _ le e1 e2 e3
    refine ⟨h.1, ?_⟩
    cases L with
    | nil =>
      have : t = e := le
      rw [this, e1]
      exact ⟨rfl, e2⟩
    | cons c L =>
      have nd2 := List.nodup_cons.mp nd
      have le2 : (c :: L).getLastD (-1) = e := le
      have ne : t ≠ e := fun z => nd2.1 (by rw [z, ← le2]; exact getLast_in (by simp))
      rw [e3 t List.mem_cons_self ne]
      exact ih _ nd2.2 h.2 (by simp) le2 e1 e2 (fun q hq => e3 q (List.mem_cons_of_mem _ hq))
theorem PZ_ent (en : ENT w s b x U U') (pq : PW w U) (p : PZ w S U) (ab : ∀ i, 0 ≤ i → i < S 55 0 → Ab w U (S 56 i)) (hb : Ab w U b) (h19 : 0 ≤ U 19 w) (w0 : 0 ≤ w) (h5 : S' 55 0 = S 55 0) (h6 : S' 56 = S 56) : PZ w S' U' := by
  obtain ⟨hs, e19, ⟨n22, n24, n27, n28, n29, n33, n20⟩, ef, ej, e45, e46b, e45b, e24⟩ := en
  obtain ⟨a, zb, c, d, g, g1, g2⟩ := p
  have e9 := ef 9 (by decide)
  have e18 := ef 18 (by decide)
  have e34 := ef 34 (by decide)
  have e40 := ef 40 (by decide)
  have e41 := ef 41 (by decide)
  have e42 := ef 42 (by decide)
  have e43 := ef 43 (by decide)
  have own : ∀ c, Ab w U c → U 42 c ≠ s := fun c hc e => by
    rcases (pq.2 c hc).1 with ⟨_, y⟩ | ⟨_, y, _⟩
    · omega
    · have := y.2; omega
  have aS : ∀ k, As w U' k → k ≠ s → As w U k := fun k hk ne => ⟨hk.1, by have := hk.2; omega⟩
  have aB : ∀ k, Ab w U' k ↔ Ab w U k := fun k => by unfold Ab; rw [e40]
  refine ⟨fun c hc => ?_, fun k hk => ?_, ?_, fun c hc => ?_, g, fun c hc => ?_, fun i i0 i1 => ?_⟩
  · have hc' := (aB c).mp hc
    obtain ⟨y1, y2⟩ := a c hc'
    have o := own c hc'
    unfold nmB at y2 ⊢
    rw [e9, e18, e34, e41, e42, e43, ej 28 _ (by decide) o, ej 29 _ (by decide) o, ej 27 _ (by decide) o, ej 20 _ (by decide) o]
    exact ⟨y1, y2⟩
  · by_cases ne : k = s
    · rw [ne, n27, n28, n29, n33]
      exact ⟨fun z => absurd rfl z, fun z => absurd rfl z, fun z => absurd rfl z, fun j j0 j1 => by omega⟩
    · have := zb k (aS k hk ne)
      unfold bo Ab at this ⊢
      rw [e34, e40, e41, e42, e43, ej 28 _ (by decide) ne, ej 29 _ (by decide) ne, ej 27 _ (by decide) ne, ej 33 _ (by decide) ne]
      exact this
  · unfold ZC Ab
    rw [e9, e18, e40, e41, e43]
    exact c
  · have hc' := (aB c).mp hc
    obtain ⟨d1, d2⟩ := d c hc'
    have sl : stB U' w c = stB U w c ++ (if c = b then [s] else []) := by
      unfold stB
      rw [stL_ent (p := fun s => decide (U 22 s = c)) e19 h19 (fun k hk => by
        have ne : k ≠ s := fun z => by have := hk.2; omega
        show decide (U' 22 k = c) = _
        rw [ej 22 k (by decide) ne])]
      congr 1
      rw [← hs, n22]
      by_cases z : c = b
      · rw [if_pos z, if_pos (by simp [z])]
      · rw [if_neg z, if_neg (by simp; exact fun y => z y.symm)]
    by_cases z : c = b
    · rw [sl, if_pos z, z, e46b]
      rw [z] at d1 d2
      refine ⟨?_, by rw [List.getLastD_concat]⟩
      rw [e45b]
      by_cases q : U 46 b = -1
      · rw [if_pos q]
        have nl : stB U w b = [] := by
          apply Classical.byContradiction
          intro ne
          have := getLast_in (d := -1) ne
          rw [← d2, q] at this
          have := (stB_in.mp this).1.1
          omega
        rw [nl]
        exact ⟨rfl, n24⟩
      · rw [if_neg q]
        have nl : stB U w b ≠ [] := fun ne => q (by rw [d2, ne]; rfl)
        have es : U 46 b ≠ s := fun e => by
          have m := getLast_in (d := -1) nl
          rw [← d2] at m
          have := (stB_in.mp m).1.2
          omega
        refine isCh_sn (e := U 46 b) _ _ stL_nodup d1 nl d2.symm ?_ n24 (fun t ht ne => ?_)
        · rw [e24 _ es, if_pos ⟨q, rfl⟩]
        · have : t ≠ s := fun e => by have := (stB_in.mp ht).1.2; omega
          rw [e24 t this, if_neg (fun y => ne y.2)]
    · rw [sl, if_neg z, List.append_nil, (e45 c z).1, (e45 c z).2]
      refine ⟨isCh_cg _ _ (fun t ht => ?_) d1, d2⟩
      obtain ⟨t1, t2⟩ := stB_in.mp ht
      have : t ≠ s := fun e => by have := t1.2; omega
      rw [e24 t this, if_neg (fun y => ?_)]
      have db := d b hb
      have nl : stB U w b ≠ [] := fun ne => y.1 (by rw [db.2, ne]; rfl)
      have m := getLast_in (d := -1) nl
      rw [← db.2, ← y.2] at m
      exact z (t2.symm.trans (stB_in.mp m).2)
  · have hc' := (aB c).mp hc
    rw [e41, e42]
    obtain ⟨y1, y2, y3⟩ := g1 c hc'
    refine ⟨y1, y2, fun z => ?_⟩
    rw [ej 22 _ (by decide) (own c hc')]
    exact y3 z
  · rw [h5] at i1
    obtain ⟨y1, y2, y3, y4⟩ := g2 i i0 i1
    rw [h6, e41, e42]
    have o := own _ (ab i i0 i1)
    rw [ej 22 _ (by decide) o, ej 28 _ (by decide) o, ej 29 _ (by decide) o]
    exact ⟨y1, y2, y3, y4⟩
end PZT
