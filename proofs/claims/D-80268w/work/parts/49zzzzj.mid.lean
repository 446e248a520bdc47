/-! COMPONENT, 29: a statement stands in the unit *-/
section MID
variable {r a n : Nat} {h : am_H} {v : vT} {R : Nat → Nat} {A : Nat → Int → Nat} {T : Nat → Nat} {w x b p0 : Int} {S U : tSt} {Q : am_O → am_H → Prop} {l1 l2 l3 l4 l5 l6 l7 l8 l9 l10 l11 l12 : Option am_V}
theorem st_mid (kk : Nat) (g : GI R A T w x p0 v S U) (hx : ¬ As w U x) (pq : PQ w U) (qv : QV U) (w0 : 0 ≤ w ∧ w ≤ 1) (n19 : 0 ≤ U 19 w ∧ U 19 w ≤ 120) (n9 : 0 ≤ U 9 w ∧ U 9 w ≤ 12) (ob : opn S b) (c : CR h v)
    (q1 : tBegins S = true → U 19 w ≠ 120 → ∀ h' v0 v', CR h' v' → Fw (fun _ _ => False) v v0 → hN v0.1 ≤ hN v.1 + 4 → hS v.1 ≤ hS v0.1 → hS v0.1 ≤ hS v.1 + 40 → Fw (fun c k => (c = hN v0.1 ∧ k ≤ 2) ∨ (c = R 8 ∧ k = 99)) (mdV v0 S) v' → hN v'.1 ≤ hN (mdV v0 S).1 + 1 → hS (mdV v0 S).1 ≤ hS v'.1 → hS v'.1 ≤ hS (mdV v0 S).1 + 250 →
      GI R (Aex A (w * 120 + U 19 w) (hN v0.1) (hN v0.1 + 1)) (Tnw v0 v' T kk) w (w * 120 + U 19 w) p0 v' S (tE0 w (w * 120 + U 19 w) b S U) →
      Rn r 175 133 [some (vR (some (R 0))), l1, some (vI (bI (tBegins S = true))), some (vR (some (hN v0.1))), l4, l5, l6, l7, l8, l9, l10, l11, l12] [] h' Q)
    (q2 : ¬ (tBegins S = true ∧ U 19 w ≠ 120) → ∀ h' v', CR h' v' → Wg (R 0) (R 2) 4 40 v v' (S 49 0) → Q (Sum.inr (R 2)) h') :
    Rn r 175 0 [some (vR (some (R 0))), l1, l2, l3, l4, l5, l6, l7, l8, l9, l10, l11, l12] [] h Q := by
  have g' := g
  obtain ⟨g1, g2, g3, g4, g5, g6, ⟨g7, g8, g9⟩, _⟩ := g
  have len : (vLs v (R 8)).length = (U 19 w).toNat := by rw [g6.1.2.2, rowL_len]
  refine st_need c g1 g2.2.1 g2.2.2.1 g6.1.1 g6.1.2.1 (by omega) (fun bg ne h0 v0 c0 f0 n0 s0 s1 => ?_) (fun ne h' v' c' w' => q2 (fun z => ne ⟨z.1, by omega⟩) h' v' c' w')
  have G0 := GI_r g' (f0.mono (fun _ _ z => z.elim)) (PT_0 f0 g1) (Int.le_refl _) rfl rfl
  have G0' := G0
  obtain ⟨h1, h2, h3, h4, h5, h6, ⟨h7, h8, h9⟩, _⟩ := G0
  have len0 : (vLs v0 (R 8)).length = (U 19 w).toNat := by rw [h6.1.2.2, rowL_len]
  refine st_entry c0 h1 bg h2.2.1 h2.2.2.1 h6.1.1 h6.1.2.1 (by omega) h7 (fun h' v' c' f' e1 e2 e3 e4 b1 b2 b3 => ?_)
  have F : Fw (fun c k => c = R 8 ∧ k = 99) v0 v' := (mdV_f.mono (fun _ _ z => z.elim)).tr2 f' (fun c k z => by
    rcases z with z | z
    · exact Or.inl (by omega)
    · exact Or.inr z)
  have k8 : hK v0.1 (R 8) = 4 := h6.1.2.1
  have kd : hK v'.1 (hN v0.1) = hK (mdV v0 S).1 (hN v0.1) := f'.kk rfl (by have := mdV_k (v := v0) (S := S); omega)
  refine q1 bg (by omega) h' v0 v' c' f0 n0 s0 s1 f' b1 b2 (by omega) (GI_enter G0' hx pq qv w0 ⟨n19.1, by omega⟩ n9 rfl ob ?_ F e1 (by rw [kd]; exact mdV_k) ?_ e3 e4 (fun a ha => Tnw_o ha) (Tnw_g F h5))
  · exact PT_fw F h1 (fun k hk z => by have := z.2; omega) (fun k z => by have := h1.w0.2.2; rw [z.1, k8] at this; exact absurd this (by decide)) (fun c z => by rw [z.1, k8]; decide)
  · rw [e2, len0]
    congr 1
    omega
end MID
