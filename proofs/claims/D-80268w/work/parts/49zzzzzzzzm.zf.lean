/-! PURE: blocks begin at different places *-/
def ZF (w : Int) (S U : tSt) : Prop := (∀ b, Ab w U b → 0 ≤ U 44 b ∧ U 44 b < S 49 0) ∧ ∀ b d, Ab w U b → Ab w U d → b < d → U 44 b < U 44 d
section ZFS
variable {w : Int} {S S' U U' V : tSt}
theorem ZF_opn {b what own num i : Int} {f : Nat} (op : OPF w b what own num f i S S' V U') (e44 : V 44 = U 44) (e40 : V 40 = U 40) (s49 : 0 ≤ S 49 0) (z : ZF w S U) : ZF w S' U' := by
  obtain ⟨⟨hb, h40, _, e4, _⟩, h1, h2⟩ := op
  have old : ∀ k, Ab w U' k → k ≠ b → Ab w U k ∧ U' 44 k = U 44 k := fun k hk ne => by
    refine ⟨⟨hk.1, ?_⟩, by rw [e4 44 k (by decide) (by decide) ne, e44]⟩
    have := hk.2
    rw [e40] at hb h40
    omega
  refine ⟨fun k hk => ?_, fun k d hk hd lt => ?_⟩
  · by_cases q : k = b
    · rw [q]; omega
    · obtain ⟨a1, a2⟩ := old k hk q
      have := z.1 k a1
      rw [a2]
      omega
  · rw [e40] at hb h40
    by_cases q : d = b
    · have nk : k ≠ b := by omega
      obtain ⟨a1, a2⟩ := old k hk nk
      have := z.1 k a1
      rw [q, a2]
      omega
    · have nk : k ≠ b := fun e => by
        have := hd.2
        omega
      obtain ⟨a1, a2⟩ := old k hk nk
      obtain ⟨c1, c2⟩ := old d hd q
      rw [a2, c2]
      exact z.2 k d a1 c1 lt
theorem ZF_E (e44 : U' 44 = U 44) (e40 : U' 40 = U 40) (le : S 49 0 ≤ S' 49 0) (z : ZF w S U) : ZF w S' U' := by
  unfold ZF Ab at *
  rw [e44, e40]
  exact ⟨fun b hb => by have := z.1 b hb; omega, z.2⟩
theorem ZF_ev (ev : EV w S U S' U') (s49 : 0 ≤ S 49 0) (z : ZF w S U) : ZF w S' U' := by
  rcases ev with ⟨d0, ev⟩ | ev | ev | ev
  · obtain ⟨e1, e2, e3, e4, e5⟩ := ev
    exact ZF_E (e1 44 (by decide)) (e1 40 (by decide)) (by omega) z
  · obtain ⟨u9, d0, V, v1, v9, v2, v18, v15, h⟩ := ev
    rcases h with ⟨h1, h2, h3, h4⟩ | ⟨op, h2, h3, _⟩
    · rw [h1]
      exact ZF_E (v1 44 (by decide)) (v1 40 (by decide)) (by omega) z
    · exact ZF_opn op (v1 44 (by decide)) (v1 40 (by decide)) s49 z
  · obtain ⟨x, n, V, U1, d1, n19, en, e1, _, _, _, n0, h⟩ := ev
    have e44 : U1 44 = U 44 := by rw [e1 44 rfl, en.2.2.2.1 44 (by decide)]
    have e40 : U1 40 = U 40 := by rw [e1 40 rfl, en.2.2.2.1 40 (by decide)]
    rcases h with ⟨h1, h2, h3, _, _, _, h7⟩ | ⟨what, rs, rn, hd8, op, h5, h6, _⟩
    · rw [h1]
      exact ZF_E e44 e40 (by omega) z
    · exact ZF_opn op e44 e40 s49 z
  · obtain ⟨d1, ev⟩ := ev
    rcases ev with ⟨n, e1, _, _, _, n0, _, h5, h6, h7⟩ | ⟨what, f, h, op, h5, h6, _⟩ | ⟨n, V, h, u33, e1, e33, _, _, n0, op, h5, h6, _⟩
    · refine ZF_E (e1 44 rfl) (e1 40 rfl) ?_ z
      split at h7 <;> omega
    · exact ZF_opn op rfl rfl s49 z
    · exact ZF_opn op (e1 44 rfl (by decide)) (e1 40 rfl (by decide)) s49 z
/-- all that is known of the rows alone along a run -/
def PY (w : Int) (S U : tSt) : Prop := PZ w S U ∧ PWt w S U ∧ ZF w S U
theorem PY_go {X Y : tSt × tSt} (g : tGo w X Y) (w0 : 0 ≤ w ∧ w ≤ 1) (hP : PI w X.1 X.2) (qv : QV X.2) (pr : PR w X.2) (p : PY w X.1 X.2) (e : Y.1 52 0 = -1) : PY w Y.1 Y.2 := by
  obtain ⟨n, rfl⟩ := g
  exact run_inv (PY w) w0 (fun S U h q r m p z => ⟨PZ_ev (ev_step h w0.1 q m z) h w0.1 q r p.1, PWt_ev (ev_step h w0.1 q m z) h w0.1 q r p.1 p.2.1, ZF_ev (ev_step h w0.1 q m z) h.1.2.1.1 p.2.2⟩) n _ _ hP qv pr p e
theorem PY_0 (h3 : U 3 w = 4) (h19 : U 19 w = 0) (h40 : U 40 w = 0) (h9 : U 9 w = 0) (h55 : S 55 0 = 0) (s49 : 0 ≤ S 49 0) : PY w S U := by
  refine ⟨PZ_0 h19 h40 h9 h55, ?_, fun b hb => ?_, fun b d hb => ?_⟩
  · unfold PWt Wt Cr
    rw [h3, h19, h9, h55]
    show 2 * ((4 : Int) - 4) + 0 + 0 ≤ 3 * S 49 0 + 0
    omega
  · have := hb.1; have := hb.2; omega
  · have := hb.1; have := hb.2; omega
end ZFS
