/-! COMPONENT, 30: a statement comes to its end *-/
section DNS
variable {R : Nat → Nat} {A : Nat → Int → Nat} {T : Nat → Nat} {w s p0 : Int} {v : vT} {S S' U U' : tSt}
/-- the statement s in hand is done: its rows, the lists and the mistakes are as they should be -/
theorem GI_done (g : GI R A T w s p0 v S U) (h : FX w s U U') (pq : PQ w U) (qv : QV U) (w0 : 0 ≤ w ∧ w ≤ 1) (n9 : 0 ≤ U 9 w ∧ U 9 w ≤ 12) (e19 : U' 19 w = U 19 w) (e40 : U' 40 w = U 40 w) (e42 : ∀ i, 0 ≤ i → i < S 55 0 → Ab w U (S 56 i)) (hs : As w U s)
    (t' : PT v (R 0) (R 1) (R 2) S') (h47 : p0 ≤ S' 47 0) (h55 : S' 55 = S 55) (h56 : S' 56 = S 56) (gl : GL R A T w v U') (gm : ∃ L, ML v (R 9) (insA [] L) ∧ L.Perm (mPar U' w)) (fs : FS v A T U' w (fun _ => none) (fun _ => []) s)
    (lb : ∀ k, As w U k → U' 20 k = 5 ∨ U' 20 k = 6 → LB v A T U' w k) (cf : ∀ c, As w U (c / 4) → c % 4 < U' 33 (c / 4) → CF v A T U' w c ∧ hI v.1 (A 4 c) 4 = bI (isS U' w c = true) ∧ (¬ pnd S U (-1) (c / 4) → hR v.1 (A 4 c) 3 = some (A 3 (U' 34 c))))
    (i4 : ∀ c d, As w U (c / 4) → c % 4 < U' 33 (c / 4) → As w U (d / 4) → d % 4 < U' 33 (d / 4) → A 4 c = A 4 d → c = d)
    (i5 : ∀ k d, As w U k → U' 20 k = 5 ∨ U' 20 k = 6 → As w U d → U' 20 d = 5 ∨ U' 20 d = 6 → A 5 k = A 5 d → k = d) : GI R A T w (-1) p0 v S' U' := by
  obtain ⟨g1, g2, g3, g4, g5, g6, ⟨g7, g8, g9⟩, _, gc, gd, ge, _, _, _⟩ := g
  have n3 := g3.2.2.2
  have as : ∀ k, As w U' k ↔ As w U k := fun k => by unfold As; rw [e19]
  have ab : ∀ k, Ab w U' k ↔ Ab w U k := fun k => by unfold Ab; rw [e40]
  have pn : ∀ k, pnd S' U' (-1) k ↔ pnd S U (-1) k := fun k => by
    unfold pnd
    rw [h55, h56]
    constructor
    · rintro (e | ⟨i, i0, i1, e⟩)
      · exact Or.inl e
      · rw [h.fb (e42 i i0 i1) (by decide) (by decide)] at e
        exact Or.inr ⟨i, i0, i1, e⟩
    · rintro (e | ⟨i, i0, i1, e⟩)
      · exact Or.inl e
      · refine Or.inr ⟨i, i0, i1, ?_⟩
        rw [h.fb (e42 i i0 i1) (by decide) (by decide)]
        exact e
  have on : ∀ b, opn S' b ↔ opn S b := fun b => by unfold opn; rw [h55, h56]
  have u3 : U' 3 w = U 3 w := h.fk (by decide) (by omega)
  have u9 : U' 9 w = U 9 w := h.fk (by decide) (by omega)
  refine ⟨t', g2, ?_, h47, g5, gl, ⟨by rw [u9]; exact g7, by rw [u9]; exact g8, by rw [h55]; exact g9⟩, gm, fun k hk => ?_, fun k hk hp => ?_, fun b hb ho => ?_, fun k hk hl => lb k ((as k).mp hk) hl, fun c hc hr => ?_, fun c d hc hr hd hq e => i4 c d ((as _).mp hc) hr ((as _).mp hd) hq e, fun k d hk hl hd hq e => i5 k d ((as _).mp hk) hl ((as _).mp hd) hq e⟩
  · obtain ⟨q1, q2, q3, q4⟩ := g3
    refine ⟨fun T t1 t2 p hp => ?_, fun k k0 k1 => q2 k k0 (by rw [u3] at k1; exact k1), q3, by rw [u3]; exact q4⟩
    rw [kO_fx h w0 n3]
    exact q1 T t1 t2 p hp
  · have hk' := (as k).mp hk
    obtain ⟨e1, e2, e3, e4⟩ := gc k hk'
    refine ⟨e1, e2, ?_, ?_⟩
    · rw [h.fs hk' (by decide) (by decide) (by decide) (Or.inr (Or.inl rfl))]
      exact e3
    · rw [h.fs hk' (by decide) (by decide) (by decide) (Or.inr (Or.inr (Or.inr rfl)))]
      exact e4
  · have hk' := (as k).mp hk
    by_cases e : k = s
    · rw [e]
      exact fs
    · refine FS_fx h pq qv w0 n3 hk' e (gd k hk' (fun y => hp ((pn k).mpr ?_)))
      rcases y with y | y
      · exact absurd y e
      · exact Or.inr y
  · have hb' := (ab b).mp hb
    obtain ⟨y1, y2, l, y3, y4, y5, y6⟩ := ge b hb' (fun y => ho ((on b).mpr y))
    refine ⟨y1, by rw [h.fb hb' (by decide) (by decide)]; exact y2, l, y3, y4, y5, ?_⟩
    rw [y6]
    congr 1
    unfold stL
    rw [e19]
    apply List.filter_congr
    intro k hk
    obtain ⟨i, hi, e2⟩ := List.mem_map.mp hk
    have hi' := List.mem_range.mp hi
    have hk' : As w U k := ⟨by omega, by omega⟩
    rw [h.fs hk' (by decide) (by decide) (by decide) (Or.inr (Or.inr (Or.inl rfl)))]
  · obtain ⟨c1, c2, c3⟩ := cf c ((as _).mp hc) hr
    exact ⟨c1, c2, fun hp => c3 (fun y => hp ((pn _).mpr y))⟩
end DNS
