/-! BOTH, 5: the law from its first instruction on *-/
section BEG
variable {sc len r m : Nat} {sv : Nat → Int32} {v v0 : vT} {h : am_H} {Q : am_O → am_H → Prop}
theorem tV_zz {w : Int} {d k : Nat} {x : Int} (e : tV w tZ tZ d k = some x) : x = 0 := by
  unfold tV tZ at e
  split at e
  · split at e
    · exact (Option.some.inj e).symm
    · cases e
  · split at e
    · exact (Option.some.inj e).symm
    · split at e
      · exact (Option.some.inj e).symm
      · cases e
theorem CR_tcon (c : CR h v) (k : hK v.1 m = 15) : ∀ d, d < 57 → CR (tcon h m d) (tcon v.1 m d, v.2)
  | 0, _ => c
  | d + 1, hd => by
    have ih := CR_tcon c k d (by omega)
    have lm := hK_lt k (by decide)
    have wkd : wk (tK (d + 1)) = true := wk_tw (Or.inr (tK_k (d + 1) hd (by omega)))
    have c1 := CR_nw (m := tK (d + 1)) (n := tL (d + 1)) ih wkd
    have nn := ih.hn
    have km : hK (vnw (tcon v.1 m d, v.2) (tK (d + 1)) (tL (d + 1))).1 m = 15 := by
      have n0 := tcon_N (h := v.1) (m := m) d
      rw [vnw_1, hK_newC, if_neg (by show ¬ m = hN (tcon v.1 m d); omega), (tcon_K d lm).1]
      exact k
    have c2 := CR_pR (k := tF (d + 1)) (z := some (hN (tcon h m d))) c1 km rfl
    have e : hN (tcon h m d) = hN (tcon v.1 m d) := nn
    rw [e] at c2
    show CR (putR (newC (tcon h m d) (tK (d + 1)) (tL (d + 1))) m (tF (d + 1)) (some (hN (tcon h m d)))) _
    rw [e]
    exact c2
theorem Fw_tcon {X : Nat → Nat → Prop} (f : Fw X v0 v) (hm : hN v0.1 ≤ m) : ∀ d, Fw X v0 (tcon v.1 m d, v.2)
  | 0 => f
  | d + 1 => (Fw_tcon f hm d).nw.pR (Or.inl hm)
theorem Fw_tpn {w : Int} {S U : tSt} {X : Nat → Nat → Prop} (f : Fw X v0 v) (hm : hN v0.1 ≤ m) : Fw X v0 (vtp v m w S U) :=
  f.step (Nat.le_refl _) (fun _ => rfl) (fun _ _ => ⟨rfl, rfl⟩) (fun a k _ ha _ => tpI_o (fun y => by omega)) (fun _ _ _ _ => ⟨rfl, rfl, rfl, rfl⟩)
theorem tcs_56 : tcs 56 ≤ 100000 := by decide
theorem law_all (hr : 9 ≤ r) (c : CR h v) (cs : CS v) (s : SCs v.1 sc len sv) (hl : len ≤ 384) (q : ∀ h', (hN h' : Int) ≤ hN h + 400000 → (hS h' : Int) ≤ hS h + 3000000 → Q (Sum.inl (some (vI 1))) h') : Rn (r + 1) 0 0 [some (vR (some sc)), none, none, none] [] h Q := by
  have nn := c.hn
  have ns := c.hs
  rw [sL_law_0, sL_law_3, sL_law_4 (by rw [nw_h]; decide) (by rw [nw_h]; decide), nn]
  have c1 := CR_nw (m := 1) (n := 5) c rfl
  have f1 : Fw (fun _ _ => False) v (vnw v 1 5) := Fw.refl.nw
  have k1 : hK (vnw v 1 5).1 (hN v.1) = 1 := nw_k
  have i1 : hI (vnw v 1 5).1 (hN v.1) 1 = 0 := by rw [vnw_1, hI_newC, if_pos rfl]
  have n1 : hN (vnw v 1 5).1 = hN v.1 + 1 := rfl
  have s1 : hS (vnw v 1 5).1 = hS v.1 + 5 := rfl
  have cs1 : CS (vnw v 1 5) := CS_fw f1 cs (fun a y => y.elim)
  generalize vnw v 1 5 = v1 at *
  refine c_rules0 c1 k1 i1 cs1 (fun h2 v2 rd tp wr wk C R A T c2 ax2 f2 cs2 n2 s2 => ?_)
  have nn2 := c2.hn
  have ns2 := c2.hs
  rw [Kt_0, sL_law_7, sL_law_8, sL_law_11, sL_law_12 (by rw [nw_h]; decide) (by rw [nw_h]; decide)]
  have km : hK (newC h2 15 75) (hN h2) = 15 := by rw [hK_newC, if_pos rfl]
  have hm : hN (newC h2 15 75) = hN h2 + 1 := rfl
  have zi : ∀ j, hI (newC h2 15 75) (hN h2) j = 0 := fun j => by rw [hI_newC, if_pos rfl]
  have zj : ∀ j, hJ (newC h2 15 75) (hN h2) j = 0 := fun j => by rw [hJ_newC, if_pos rfl]
  rw [tw_init km hm zi zj, Kt_0, sL_law_15, sL_law_16, sL_law_17]
  -- views
  have c3 := CR_nw (m := 15) (n := 75) c2 rfl
  have f3 : Fw (fun _ _ => False) v2 (vnw v2 15 75) := Fw.refl.nw
  have k3 : hK (vnw v2 15 75).1 (hN v2.1) = 15 := nw_k
  have n3 : hN (vnw v2 15 75).1 = hN v2.1 + 1 := rfl
  have s3 : hS (vnw v2 15 75).1 = hS v2.1 + 75 := rfl
  have zi3 : ∀ j, hI (vnw v2 15 75).1 (hN v2.1) j = 0 := fun j => by rw [vnw_1, hI_newC, if_pos rfl]
  have zj3 : ∀ j, hJ (vnw v2 15 75).1 (hN v2.1) j = 0 := fun j => by rw [vnw_1, hJ_newC, if_pos rfl]
  rw [nn2]
  generalize vnw v2 15 75 = v3 at *
  generalize newC h2 15 75 = h3 at *
  have c4 := CR_tcon c3 k3 56 (by decide)
  have t4 : TS (tcon v3.1 (hN v2.1) 56) (hN v2.1) := tcon_TS k3 n3
  have f4 : Fw (fun _ _ => False) v2 (tcon v3.1 (hN v2.1) 56, v3.2) := Fw_tcon f3 (Nat.le_refl _) 56
  have n4 : hN (tcon v3.1 (hN v2.1) 56) = hN v3.1 + 56 := tcon_N 56
  have s4 : hS (tcon v3.1 (hN v2.1) 56) = hS v3.1 + tcs 56 := tcon_S 56
  have a4 : Agr (tcon v3.1 (hN v2.1) 56) (hN v2.1) (1 - 0) tZ tZ := fun d k x hd e => by
    have z := tcon_z (h := v3.1) (m := hN v2.1) (a := hN v2.1 + d) (j := k) 56 (by omega) (by omega) n3 (zi3 k) (zj3 k)
    rw [tV_zz e]
    exact ⟨fun _ => z.1, fun _ => z.2⟩
  have c5 : CR (tput (tcon h3 (hN v2.1) 56) (hN v2.1) 0 tZ (tClear 0 tZ)) (vtp (tcon v3.1 (hN v2.1) 56, v3.2) (hN v2.1) 0 tZ (tClear 0 tZ)) := CR_tp c4 t4
  have f5 : Fw (fun _ _ => False) v2 (vtp (tcon v3.1 (hN v2.1) 56, v3.2) (hN v2.1) 0 tZ (tClear 0 tZ)) := Fw_tpn f4 (Nat.le_refl _)
  have ax5 : AX (vtp (tcon v3.1 (hN v2.1) 56, v3.2) (hN v2.1) 0 tZ (tClear 0 tZ)) (hN v.1) rd tp wr wk C R A T 0 (fun _ => 1) 0 tZ (tClear 0 tZ) := AX_fr (S' := tZ) ax2 f5 (fun _ _ y _ => y.elim) (fun _ _ => rfl) SL_0
  have tw5 : TWs (vtp (tcon v3.1 (hN v2.1) 56, v3.2) (hN v2.1) 0 tZ (tClear 0 tZ)).1 (hN v2.1) 0 tZ (tClear 0 tZ) tZ := by
    have := TWs_2 (h := tcon v3.1 (hN v2.1) 56) (m := hN v2.1) (w := 0) (S1 := tZ) (U1 := tZ) (S := tZ) (U := tClear 0 tZ) t4 (by decide) (by decide)
    rw [a4.id] at this
    exact this
  have sc5 : SCs (vtp (tcon v3.1 (hN v2.1) 56, v3.2) (hN v2.1) 0 tZ (tClear 0 tZ)).1 sc len sv := by
    obtain ⟨a1, a2, a3⟩ := s
    have l0 := hK_lt a1 (by decide)
    have F : Fw (fun a _ => a = hN v.1) v v2 := (f1.mono (fun _ _ y => y.elim)).tr2 f2 (fun a k y => Or.inr y)
    have F5 : Fw (fun a _ => a = hN v.1) v (vtp (tcon v3.1 (hN v2.1) 56, v3.2) (hN v2.1) 0 tZ (tClear 0 tZ)) := F.tr2 f5 (fun a k y => y.elim)
    refine ⟨F5.kk a1 (by decide), by rw [(F5.2.2 sc l0).2.1]; exact a2, fun k => ?_⟩
    rw [(F5.ff (k := k) l0 (fun y => by omega)).1]
    exact a3 k
  have nf : hN (vtp (tcon v3.1 (hN v2.1) 56, v3.2) (hN v2.1) 0 tZ (tClear 0 tZ)).1 = hN v3.1 + 56 := n4
  have sf : hS (vtp (tcon v3.1 (hN v2.1) 56, v3.2) (hN v2.1) 0 tZ (tClear 0 tZ)).1 = hS v3.1 + tcs 56 := s4
  generalize vtp (tcon v3.1 (hN v2.1) 56, v3.2) (hN v2.1) 0 tZ (tClear 0 tZ) = v5 at *
  generalize tput (tcon h3 (hN v2.1) 56) (hN v2.1) 0 tZ (tClear 0 tZ) = h5 at *
  have t56 := tcs_56
  have j0 : JI (hN v.1) (hN v2.1) sc len sv (hN v5.1) (hS v5.1) 0 h5 v5 := ⟨rd, tp, wr, wk, C, R, A, T, 0, fun _ => 1, 0, tZ, tClear 0 tZ, tZ, c5, ax5, tw5, ⟨rfl, by decide, by decide⟩, QV_tZ, NK_clear (by decide), ⟨by unfold tZ; omega, fun j => by unfold tZ; omega, by unfold tZ; omega⟩, sc5, ⟨by omega, by unfold tZ; omega, by unfold tZ; omega, by unfold tZ; omega⟩⟩
  have := law_loop (Q := Q) hr hl (fun h' v' t' ht j => q h' ?_ ?_) 64 0 h5 v5 (by decide) (by decide) (by decide) j0
  · exact this
  · obtain ⟨_, _, _, _, _, _, _, _, _, _, w, S, U, U1, c', ax', _, _, _, _, _, _, b⟩ := j
    have := ax'.sl.2.1.1
    rw [c'.hn]
    omega
  · obtain ⟨_, _, _, _, _, _, _, _, _, _, w, S, U, U1, c', ax', _, _, _, _, _, _, b⟩ := j
    have := ax'.sl.2.1.1
    rw [c'.hs]
    omega
end BEG
