/-! PURE: statements have the blocks that their sort asks for; owners come first *-/
def ZH (w : Int) (U : tSt) : Prop := ∀ s, As w U s → (U 27 s = -1 → U 20 s ≤ 3 ∨ U 20 s = 7 ∨ U 20 s = 8) ∧ (U 41 (U 22 s) ≠ 0 → U 42 (U 22 s) < s)
section ZHS
variable {w : Int} {S S' U U' V : tSt}
theorem ZH_E (e : ∀ f, f = 19 ∨ f = 20 ∨ f = 22 ∨ f = 27 ∨ f = 41 ∨ f = 42 → U' f = U f) (z : ZH w U) : ZH w U' := by
  unfold ZH As at *
  rw [e 19 (by decide), e 20 (by decide), e 22 (by decide), e 27 (by decide), e 41 (by decide), e 42 (by decide)]
  exact z
theorem ZH_opn {b what own num i : Int} {f : Nat} (op : OPN w b what own num f i V U') (hf : f = 18 ∨ f = 27 ∨ f = 28 ∨ f = 29 ∨ f = 34) (w0 : 0 ≤ w) (v40 : 0 ≤ V 40 w) (ab : ∀ s, As w V s → Ab w V (V 22 s))
    (z : ∀ s, As w V s → (V 27 s = -1 → ¬ (f = 27 ∧ i = s) → V 20 s ≤ 3 ∨ V 20 s = 7 ∨ V 20 s = 8) ∧ (V 41 (V 22 s) ≠ 0 → V 42 (V 22 s) < s)) : ZH w U' := by
  obtain ⟨hb, e40, ⟨n41, n42, n43, n45, n46⟩, e4, efi, ej⟩ := op
  intro s hs
  have sV : As w V s := by
    unfold As at hs ⊢
    rw [ej 19 w (by decide) (fun y => by omega)] at hs
    exact hs
  have a := ab s sV
  have ne : V 22 s ≠ b := by have := a.2; omega
  rw [ej 20 s (by decide) (fun y => by omega), ej 22 s (by decide) (fun y => by omega), e4 41 _ (by decide) (by decide) ne, e4 42 _ (by decide) (by decide) ne]
  refine ⟨fun y => ?_, (z s sV).2⟩
  by_cases q : f = 27 ∧ i = s
  · obtain ⟨q1, q2⟩ := q
    subst q1
    subst q2
    rw [efi] at y
    omega
  · rw [ej 27 s (by decide) (fun y => q ⟨y.1.symm, y.2.symm⟩)] at y
    exact (z s sV).1 y q
theorem ZH_ev (ev : EV w S U S' U') (hP : PI w S U) (w0 : 0 ≤ w) (qv : QV U) (pr : PR w U) (z : ZH w U) : ZH w U' := by
  have ab := hP.ab
  have b19 := QV_b qv (f := 19) (c := 120) rfl rfl rfl w
  have b40 := pr.2.1
  have hd := hP.1.2.2.2.2.2.2.2
  have pw := pr.1.pw
  rcases ev with ⟨d0, ev⟩ | ev | ev | ev
  · obtain ⟨e1, e2, e3, e4, e5⟩ := ev
    exact ZH_E (fun f hf => e1 f (by omega)) z
  · obtain ⟨u9, d0, V, v1, v9, v2, v18, v15, h⟩ := ev
    have zv : ZH w V := ZH_E (fun f hf => v1 f (by omega)) z
    rcases h with ⟨h1, h2, h3, h4⟩ | ⟨op, h2, h3, _⟩
    · rw [h1]; exact zv
    · refine ZH_opn op.1 (by decide) w0 (by rw [v1 40 (by decide)]; exact b40) (fun s hs => ?_) (fun s hs => ⟨fun y _ => (zv s hs).1 y, (zv s hs).2⟩)
      unfold As Ab at *
      rw [v1 19 (by decide)] at hs
      rw [v1 40 (by decide), v1 22 (by decide)]
      exact pw.1 s hs
  · obtain ⟨x, n, V, U1, d1, n19, en, e1, _, _, _, n0, h⟩ := ev
    have hb := ab (S 55 0 - 1) (by omega) (by omega)
    have pw1 := PW_E (PW_ent en pw hb b19.1) e1
    obtain ⟨_, v19, ⟨v22, v24, v27, v28, v29, v33, v20⟩, ef, ej, _⟩ := en
    have old : ∀ s, As w U1 s → s ≠ w * 120 + U 19 w → (U1 27 s = -1 → U1 20 s ≤ 3 ∨ U1 20 s = 7 ∨ U1 20 s = 8) ∧ (U1 41 (U1 22 s) ≠ 0 → U1 42 (U1 22 s) < s) := fun s hs ne => by
      rw [e1 27 rfl, e1 20 rfl, e1 41 rfl, e1 42 rfl, e1 22 rfl, ej 27 s (by decide) ne, ej 20 s (by decide) ne, ej 22 s (by decide) ne, ef 41 (by decide), ef 42 (by decide)]
      refine z s ⟨hs.1, ?_⟩
      have := hs.2
      rw [e1 19 rfl, v19] at this
      omega
    have nw : U1 41 (U1 22 (w * 120 + U 19 w)) ≠ 0 → U1 42 (U1 22 (w * 120 + U 19 w)) < w * 120 + U 19 w := fun y => by
      rw [e1 41 rfl, e1 42 rfl, e1 22 rfl, ef 41 (by decide), ef 42 (by decide), v22] at *
      rcases (pw.2 _ hb).1 with ⟨q, _⟩ | ⟨_, q, _⟩
      · exact absurd q y
      · have := q.2; omega
    rcases h with ⟨h1, h2, h3, _, _, ⟨_, x3⟩, h7⟩ | ⟨what, rs, rn, hd8, op, h5, h6, _⟩
    · rw [h1]
      intro s hs
      by_cases e : s = w * 120 + U 19 w
      · subst e
        refine ⟨fun _ => ?_, nw⟩
        rw [e1 20 rfl, v20]
        exact x3
      · exact old s hs e
    · refine ZH_opn op.1 (by decide) w0 (by rw [e1 40 rfl, ef 40 (by decide)]; exact b40) pw1.1 (fun s hs => ?_)
      by_cases e : s = w * 120 + U 19 w
      · subst e
        exact ⟨fun _ y => (y ⟨rfl, rfl⟩).elim, nw⟩
      · exact ⟨fun y _ => (old s hs e).1 y, (old s hs e).2⟩
  · obtain ⟨d1, ev⟩ := ev
    rcases ev with ⟨n, e1, _, _, _, n0, _, h5, h6, h7⟩ | ⟨what, f, h, op, h5, h6, _⟩ | ⟨n, V, h, u33, e1, e33, _, _, n0, op, h5, h6, _⟩
    · exact ZH_E (fun f hf => e1 f (by rcases hf with rfl | rfl | rfl | rfl | rfl | rfl <;> rfl)) z
    · exact ZH_opn op.1 (by omega) w0 b40 pw.1 (fun s hs => ⟨fun y _ => (z s hs).1 y, (z s hs).2⟩)
    · have zv : ZH w V := ZH_E (fun f hf => e1 f (by rcases hf with rfl | rfl | rfl | rfl | rfl | rfl <;> rfl) (by omega)) z
      refine ZH_opn op.1 (by decide) w0 (by rw [e1 40 rfl (by decide)]; exact b40) (fun s hs => ?_) (fun s hs => ⟨fun y _ => (zv s hs).1 y, (zv s hs).2⟩)
      unfold As Ab at *
      rw [e1 19 rfl (by decide)] at hs
      rw [e1 40 rfl (by decide), e1 22 rfl (by decide)]
      exact pw.1 s hs
theorem ZH_go {X Y : tSt × tSt} (g : tGo w X Y) (w0 : 0 ≤ w ∧ w ≤ 1) (hP : PI w X.1 X.2) (qv : QV X.2) (pr : PR w X.2) (p : ZH w X.2) (e : Y.1 52 0 = -1) : ZH w Y.2 := by
  obtain ⟨n, rfl⟩ := g
  exact run_inv (fun _ U => ZH w U) w0 (fun S U h q r m p z => ZH_ev (ev_step h w0.1 q m z) h w0.1 q r p) n _ _ hP qv pr p e
theorem ZH_0 (h19 : U 19 w = 0) : ZH w U := fun s hs => by
  have := hs.1; have := hs.2; omega
end ZHS
