/-! JDK: maps, 18: one more node *-/
section MSL
variable {g : Nat → Nat} {h h' : am_H} {v v' : vT} {r m t n ix : Nat} {NS NS' : List Nat} {Q : am_O → am_H → Prop} {T : List Int32} {z : Nat}
/-- a bin that keeps its nodes -/
theorem bin_tr {i : Nat} {o : Option Nat} (e : ∀ x, x ∈ NS → bIx n (hI h x 0) = i → sameN h h' v v' x) (nw : ∀ x, (x ∈ NS' ∧ bIx n (hI h' x 0) = i) ↔ (x ∈ NS ∧ bIx n (hI h x 0) = i)) (b : isLB h n o NS i ∨ (n = 64 ∧ isTB h v o NS i)) : isLB h' n o NS' i ∨ (n = 64 ∧ isTB h' v' o NS' i) := by
  rcases b with ⟨xs, c1, c2, c3, c4⟩ | ⟨rfl, rt, lo, hi, c1, c2, c3, c4, c5⟩
  · have ex : ∀ x, x ∈ xs → sameN h h' v v' x := fun x hx => e x ((c4 x).mp hx).1 ((c4 x).mp hx).2
    refine Or.inl ⟨xs, chn_l (fun x hx => ((ex x hx).2.1 3).2) c1, c2, fun x hx => by rw [(ex x hx).1]; exact c3 x hx, fun x => ?_⟩
    rw [c4 x, nw x]
  · have pd : (fun x => x ∈ NS' ∧ bIx 64 (hI h' x 0) = i) = fun x => x ∈ NS ∧ bIx 64 (hI h x 0) = i := funext fun x => propext (nw x)
    refine Or.inr ⟨rfl, rt, lo, hi, c1, ?_, ?_, by rw [((e rt c2.1.1 c2.1.2).2.1 3).2]; exact c4, c5⟩
    · rw [pd]; exact isTr_l (fun x hx => e x hx.1 hx.2) c2
    · rw [pd]; exact isNb_l (v := v) (v' := v') (fun x hx => e x hx.1 hx.2) c3
/-- the inside of a map with a table, whatever it maps -/
def OS (g : Nat → Nat) (h : am_H) (v : vT) (m t n : Nat) (NS : List Nat) : Prop :=
  NS.Nodup ∧ (∀ x, x ∈ NS → isNd g h v m x) ∧ (∀ x y, x ∈ NS → y ∈ NS → ndT h v x = ndT h v y → x = y) ∧ (∀ s z, vMp v m s = some z → ∃ x, x ∈ NS ∧ ndT h v x = s) ∧ hR h m 2 = some t ∧ (n = 16 ∨ n = 32 ∨ n = 64) ∧ hI h m 6 = iI ((n / 4 * 3 : Nat) : Int) ∧ isTb g h v m t n NS
/-- a node more, in bin ix -/
theorem MS_ins {a : Nat} (os : OS g h v m t n NS) (gm : g m = m) (km : hK h m = 6) (lm : m < hN h) (ta : vTx v a = T) (ka : hK v.1 a = 10 ∨ (hK v.1 a = 11 ∧ T.length < 8)) (la : a < hN h) (kT : okK T) (new : vMp v m T = none) (hx : bIx n (sprd (hashS T)) = ix)
    (e1 : hN h' = hN h + 1) (eK : ∀ b, b < hN h → hK h' b = hK h b ∧ hL h' b = hL h b) (eM : ∀ k, hI h' m k = hI h m k ∧ hR h' m k = hR h m k) (eN : ∀ x, x ∈ NS → hI h' x 0 = hI h x 0 ∧ hR h' x 1 = hR h x 1 ∧ hR h' x 2 = hR h x 2) (eB : ∀ x, x ∈ NS → bIx n (hI h x 0) ≠ ix → ∀ k, hI h' x k = hI h x k ∧ hR h' x k = hR h x k) (eT : ∀ k, k ≠ ix → hR h' t k = hR h t k)
    (n1 : hK h' (hN h) = 12 ∨ hK h' (hN h) = 13) (n2 : hI h' (hN h) 0 = sprd (hashS T)) (n3 : hR h' (hN h) 1 = some a) (n4 : hR h' (hN h) 2 = some z)
    (bin : isLB h' n (hR h' t ix) (NS ++ [hN h]) ix ∨ (n = 64 ∧ isTB h' (vsM v m T z) (hR h' t ix) (NS ++ [hN h]) ix)) : MS (gN g (hN h) m) h' (vsM v m T z) m t n (NS ++ [hN h]) := by
  obtain ⟨s1, s2, s3, s4, s5, s6, s7, ⟨u1, u2, u3, u4, u5⟩⟩ := os
  have ltn : ∀ x, x ∈ NS → x < hN h := fun x hx => (s2 x hx).2.1
  have tN : ndT h' (vsM v m T z) (hN h) = T := by
    unfold ndT
    rw [n3]
    exact ta
  have tO : ∀ x, x ∈ NS → ndT h' (vsM v m T z) x = ndT h v x := fun x hx => by
    unfold ndT
    rw [(eN x hx).2.1]
    rfl
  have old : ∀ x, x ∈ NS → ndT h v x ≠ T := fun x hx e => by
    obtain ⟨_, _, _, k, w, n4', _, _, _, _, _, n10⟩ := s2 x hx
    have : ndT h v x = vTx v k := by unfold ndT; rw [n4']
    rw [← this, e, new] at n10
    cases n10
  have mm : ∀ y, y ∈ NS ++ [hN h] ↔ (y ∈ NS ∨ y = hN h) := fun y => by rw [List.mem_append, List.mem_singleton]
  refine ⟨?_, fun x hx => ?_, fun x y hx hy e => ?_, fun s w e => ?_, by rw [(eM 2).2]; exact s5, s6, by rw [(eM 6).1]; exact s7, ⟨by rw [(eK t u3).1]; exact u1, by rw [gN_ne (by omega)]; exact u2, by omega, by rw [(eK t u3).2]; exact u4, fun i hi => ?_⟩⟩
  · refine List.nodup_append.mpr ⟨s1, by simp, fun y hy w hw e => ?_⟩
    have h1 := ltn y hy
    have h2 := List.mem_singleton.mp hw
    omega
  · rcases (mm x).mp hx with w | w
    · obtain ⟨d1, d2, d3, k, y, d4, d5, d6, d7, d8, d9, d10⟩ := s2 x w
      have : ndT h v x = vTx v k := by unfold ndT; rw [d4]
      refine ⟨by rw [gN_ne (by have := ltn x w; omega)]; exact d1, by omega, by rw [(eK x (ltn x w)).1]; exact d3, k, y, by rw [(eN x w).2.1]; exact d4, by omega, d6, d7, by rw [(eN x w).1]; exact d8, by rw [(eN x w).2.2]; exact d9, ?_⟩
      show vMp (vsM v m T z) m (vTx v k) = some y
      rw [vMp_sM, if_neg (fun e => old x w (by rw [this]; exact e.2))]
      exact d10
    · rw [w]
      refine ⟨gN_eq, by omega, n1, a, z, n3, by omega, ?_, by show okK (vTx v a); rw [ta]; exact kT, by rw [n2]; show _ = sprd (hashS (vTx v a)); rw [ta], n4, ?_⟩
      · show hK v.1 a = 10 ∨ (hK v.1 a = 11 ∧ (vTx v a).length < 8)
        rw [ta]
        exact ka
      · show vMp (vsM v m T z) m (vTx v a) = some z
        rw [vMp_sM, if_pos ⟨rfl, ta⟩]
  · rcases (mm x).mp hx with w | w
    · rcases (mm y).mp hy with q | q
      · rw [tO x w, tO y q] at e
        exact s3 x y w q e
      · rw [tO x w, q, tN] at e
        exact absurd e (old x w)
    · rcases (mm y).mp hy with q | q
      · rw [tO y q, w, tN] at e
        exact absurd e.symm (old y q)
      · rw [w, q]
  · rw [vMp_sM] at e
    by_cases q : m = m ∧ s = T
    · exact ⟨hN h, (mm _).mpr (Or.inr rfl), by rw [tN]; exact q.2.symm⟩
    · rw [if_neg q] at e
      obtain ⟨x, x1, x2⟩ := s4 s w e
      exact ⟨x, (mm x).mpr (Or.inl x1), by rw [tO x x1]; exact x2⟩
  · by_cases q : i = ix
    · rw [q]; exact bin
    · rw [eT i q]
      refine bin_tr (v := v) (fun x hx hb => ⟨(eK x (ltn x hx)).1, eB x hx (fun w => q (hb.symm.trans w)), tO x hx⟩) (fun x => ?_) (u5 i hi)
      rw [mm x]
      constructor
      · rintro ⟨w | w, w2⟩
        · rw [(eN x w).1] at w2
          exact ⟨w, w2⟩
        · rw [w, n2] at w2
          exact absurd (w2.symm.trans hx) q
      · rintro ⟨w, w2⟩
        exact ⟨Or.inl w, by rw [(eN x w).1]; exact w2⟩
end MSL
