/-! COMPONENT, 23: the invariant stays while tokens are looked at *-/
/-- the reader's scratch fields -/
def Xr (rd wr : Nat) (a k : Nat) : Prop := (a = rd ∧ (3 ≤ k ∧ k ≤ 6 ∨ 14 ≤ k ∧ k ≤ 16)) ∨ (a = wr ∧ k = 6)
section GQS
variable {R : Nat → Nat} {A : Nat → Int → Nat} {T : Nat → Nat} {w x p0 : Int} {v v' : vT} {S S' U : tSt} {X : Nat → Nat → Prop}
theorem TG_fw (f : Fw X v v') (t : TG v T ∧ TZ v T) : TG v' T ∧ TZ v' T := by
  refine ⟨fun a h0 h1 h2 => ?_, fun a ha => t.2 a (by have := f.1; omega)⟩
  by_cases p : a < hN v.1
  · rw [(f.2.2 a p).1] at h0 h1 h2
    exact t.1 a h0 h1 h2
  · exact t.2 a (by omega)
theorem IL_fw {l : Nat} {N : List Int} (f : Fw X v v') (h1 : ¬ X l 99) (h2 : ∀ a k, X a k → hK v.1 a ≠ 8 ∧ hK v.1 a ≠ 9) (x : IL v l N) : IL v' l N := by
  obtain ⟨x1, x2, x3⟩ := x
  have e := (f.cc (hK_lt x1 (by decide)) h1).1
  refine ⟨f.kk x1 (by decide), by rw [e]; exact x2, fun i hi => ?_⟩
  obtain ⟨b, b1, b2, b3⟩ := x3 i hi
  have lt : b < hN v.1 := by rcases b2 with b2 | b2 <;> exact hK_lt b2 (by decide)
  refine ⟨b, by rw [e]; exact b1, ?_, ?_⟩
  · rw [(f.2.2 b lt).1]
    exact b2
  · rw [(f.ff lt (fun z => by have := h2 _ _ z; omega)).1]
    exact b3
theorem GL_fw (f : Fw (Xr (R 0) (R 2)) v v') (k0 : hK v.1 (R 0) = 2) (k2 : hK v.1 (R 2) = 3) (k3 : hK v.1 (R 3) = 5) (g : GL R A T w v U) : GL R A T w v' U := by
  have kx : ∀ a k, Xr (R 0) (R 2) a k → (hK v.1 a = 2 ∨ hK v.1 a = 3) ∧ k ≠ 99 ∧ k ≠ 10 ∧ k ≠ 11 ∧ k ≠ 12 ∧ k ≠ 13 ∧ k ≠ 17 := fun a k z => by
    rcases z with z | z
    · exact ⟨Or.inl (by rw [z.1]; exact k0), by omega⟩
    · exact ⟨Or.inr (by rw [z.1]; exact k2), by omega⟩
  have r3 : hR v'.1 (R 3) 4 = hR v.1 (R 3) 4 := (f.ff (hK_lt k3 (by decide)) (fun z => by have := (kx _ _ z).1; omega)).2.2
  have r0 : ∀ k, k = 10 ∨ k = 11 ∨ k = 12 ∨ k = 13 ∨ k = 17 → hR v'.1 (R 0) k = hR v.1 (R 0) k := fun k hk => (f.ff (hK_lt k0 (by decide)) (fun z => by have := (kx _ _ z).2; omega)).2.2
  have ls : ∀ l, hK v.1 l = 4 → vLs v' l = vLs v l := fun l hl => (f.cc (hK_lt hl (by decide)) (fun z => (kx _ _ z).2.1 rfl)).1
  have il : ∀ l N, IL v l N → IL v' l N := fun l N y => IL_fw f (fun z => (kx _ _ z).2.1 rfl) (fun a k z => by have := (kx _ _ z).1; omega) y
  obtain ⟨⟨a1, a2, a3⟩, ⟨b1, b2, b3⟩, ⟨c1, c2⟩, ⟨d1, d2, d3⟩, ⟨e1, e2, e3⟩, ⟨g1, g2⟩, g3⟩ := g
  refine ⟨⟨by rw [r3]; exact a1, f.kk a2 (by decide), by rw [ls _ a2]; exact a3⟩, ⟨by rw [r0 10 (by decide)]; exact b1, f.kk b2 (by decide), by rw [ls _ b2]; exact b3⟩, ⟨by rw [r0 11 (by decide)]; exact c1, il _ _ c2⟩, ⟨by rw [r0 12 (by decide)]; exact d1, f.kk d2 (by decide), by rw [ls _ d2]; exact d3⟩, ⟨by rw [r0 13 (by decide)]; exact e1, f.kk e2 (by decide), by rw [ls _ e2]; exact e3⟩, ⟨by rw [r0 17 (by decide)]; exact g1, il _ _ g2⟩, g3⟩
theorem GI_r (g : GI R A T w x p0 v S U) (f : Fw (Xr (R 0) (R 2)) v v') (t' : PT v' (R 0) (R 1) (R 2) S') (h47 : S 47 0 ≤ S' 47 0) (h55 : S' 55 = S 55) (h56 : S' 56 = S 56) : GI R A T w x p0 v' S' U := by
  obtain ⟨g1, g2, g3, g4, g5, g6, ⟨g7, g8, g9⟩, ⟨L, ga, gb⟩, gc, gd, ge, gf, gg, gh⟩ := g
  have k0 := g1.w0.1
  have k2 := g1.w0.2.1
  have kx : ∀ a k, Xr (R 0) (R 2) a k → (hK v.1 a = 2 ∨ hK v.1 a = 3) ∧ k ≠ 99 ∧ k ≠ 7 ∧ k ≠ 8 ∧ k ≠ 9 := fun a k z => by
    rcases z with z | z
    · exact ⟨Or.inl (by rw [z.1]; exact k0), by omega⟩
    · exact ⟨Or.inr (by rw [z.1]; exact k2), by omega⟩
  have xg : XG v T (Xr (R 0) (R 2)) := fun a k z => by have := (kx _ _ z).1; omega
  have rd : ∀ k, k = 8 ∨ k = 9 → hI v'.1 (R 0) k = hI v.1 (R 0) k ∧ hJ v'.1 (R 0) k = hJ v.1 (R 0) k ∧ hR v'.1 (R 0) k = hR v.1 (R 0) k := fun k hk => f.ff (hK_lt k0 (by decide)) (fun z => by have := (kx _ _ z).2; omega)
  have pn : ∀ s, pnd S' U x s ↔ pnd S U x s := fun s => by unfold pnd; rw [h55, h56]
  have on : ∀ b, opn S' b ↔ opn S b := fun b => by unfold opn; rw [h55, h56]
  refine ⟨t', ?_, KMp_fw f g3 (fun z => (kx _ _ z).2.1 rfl), Int.le_trans g4 h47, TG_fw f g5, GL_fw f k0 k2 g2.2.2.1 g6, ⟨by rw [(rd 8 (by decide)).2.2]; exact g7, f.kk g8 (by decide), by rw [(rd 9 (by decide)).1, h55]; exact g9⟩, ⟨L, ?_, gb⟩, fun s hs => ?_, fun s hs hp => ?_, fun b hb ho => ?_, fun s hs hl => ?_, fun c hc hr => ?_, gh⟩
  · exact RUn_fw f g2 (fun z => (kx _ _ z).2.2.1 rfl) (fun k hk z => by have := (kx _ _ z).1; have := g2.2.2.1; omega)
  · exact ML_fw f ga (fun z => (kx _ _ z).2.1 rfl) (fun a k z _ => by have := (kx _ _ z).1; omega)
  · obtain ⟨e1, e2, e3, e4⟩ := gc s hs
    have q := fun k => f.ff (a := A 2 s) (k := k) (hK_lt rfl (by omega)) (fun z => by have := (kx _ _ z).1; omega)
    have kk : hK v'.1 (A 2 s) = hK v.1 (A 2 s) := f.kk rfl (by omega)
    exact ⟨by rw [kk]; exact e1, by rw [(q 0).1]; exact e2, by rw [(q 1).1]; exact e3, by rw [(q 2).2.2]; exact e4⟩
  · exact FS_fw f xg g5.1 (gd s hs (fun z => hp ((pn s).mpr z)))
  · exact FB_fw f xg g5.1 (ge b hb (fun z => ho ((on b).mpr z)))
  · obtain ⟨l1, l2, l3, l4, l5⟩ := gf s hs hl
    exact ⟨f.kk l1 (by decide), by rw [(f.ff (hK_lt l1 (by decide)) (fun z => by have := (kx _ _ z).1; omega)).2.2]; exact l2, f.kk l3 (by decide), l4, by rw [(f.cc (hK_lt l3 (by decide)) (fun z => (kx _ _ z).2.1 rfl)).1]; exact l5⟩
  · obtain ⟨c1, c2, c3⟩ := gg c hc hr
    have q := fun k => f.ff (k := k) (hK_lt c1.1 (by decide)) (fun z => by have := (kx _ _ z).1; have := c1.1; omega)
    exact ⟨CF_fw f xg g5.1 c1, by rw [(q 4).1]; exact c2, fun hp => by rw [(q 3).2.2]; exact c3 (fun z => hp ((pn _).mpr z))⟩
end GQS
