/-! COMPONENT, 159: new ThrowRules() (1); the house at the beginning *-/
section AX0
variable {R : Nat → Nat} {A : Nat → Int → Nat} {T : Nat → Nat} {w : Int} {v : vT} {U : tSt} {n : Nat} {K : Nat → Nat} {O : Nat → Option Nat}
/-- a new unit -/
theorem GU_0 {oc ov : Int → Option Nat} {cl0 : Int → List (Option Nat)} (un : UNi v (R 3) n K O 4) (hO : O 0 = none ∧ O 1 = some (K 0) ∧ O 2 = some (K 1) ∧ O 3 = some (K 0)) (hR4 : R 4 = n ∧ R 5 = n + 1 ∧ R 6 = n + 2 ∧ R 7 = n + 3 ∧ R 8 = n + 4 ∧ R 9 = n + 5) (hA : ∀ j : Nat, j < 4 → A 0 j = K j)
    (hT : T (R 4) = 6 ∧ T (R 6) = 6 ∧ T (R 8) = 3 ∧ T (R 9) = 3) (tg : TG v T ∧ TZ v T) (cl : CLR w U) : GU R A T w 0 v U oc cl0 ov ∧ ML v (R 9) (insA [] []) := by
  obtain ⟨⟨⟨ku, q0, q1, q2, q3, q4, q5⟩, k0, k1, k2, k3, k4, k5⟩, ls, m1, m2, kk, ⟨e2, e4, e5, p5⟩, e3⟩ := un
  obtain ⟨c4, c5, c6, c7, c8, c9⟩ := hR4
  obtain ⟨⟨u3, u9, u19, u40⟩, uk⟩ := id cl
  have noS : ∀ s, ¬ As w U s := fun s hs => by have := hs.1; have := hs.2; omega
  have noB : ∀ b, ¬ Ab w U b := fun b hb => by have := hb.1; have := hb.2; omega
  have kA : ∀ k, 0 ≤ k → k < U 3 w → A 0 k = K k.toNat := fun k h0 h1 => by
    have := hA k.toNat (by omega)
    rw [show ((k.toNat : Nat) : Int) = k by omega] at this
    exact this
  have inj : ∀ t, okK t → ∀ j, j < 4 → (wN (cT j) = wN t ↔ cT j = t) := fun t ht j hj => wN_inj (cT_ok j hj).1.2 ht.2
  have mp : ∀ t, okK t → ∀ p, 0 ≤ p → vMp v (R 5) t = optA (A 0) (kO U w (wN t) p) := fun t ht p hp => by
    rw [kO4 cl hp, c5]
    by_cases z0 : cT 0 = t
    · rw [if_pos ((inj t ht 0 (by omega)).mpr z0), ← z0, m1 0 (by omega)]
      show some (K 0) = some (A 0 ((0 : Nat) : Int))
      rw [hA 0 (by omega)]
    · rw [if_neg (fun y => z0 ((inj t ht 0 (by omega)).mp y))]
      by_cases z1 : cT 1 = t
      · rw [if_pos ((inj t ht 1 (by omega)).mpr z1), ← z1, m1 1 (by omega)]
        show some (K 1) = some (A 0 ((1 : Nat) : Int))
        rw [hA 1 (by omega)]
      · rw [if_neg (fun y => z1 ((inj t ht 1 (by omega)).mp y))]
        by_cases z2 : cT 2 = t
        · rw [if_pos ((inj t ht 2 (by omega)).mpr z2), ← z2, m1 2 (by omega)]
          show some (K 2) = some (A 0 ((2 : Nat) : Int))
          rw [hA 2 (by omega)]
        · rw [if_neg (fun y => z2 ((inj t ht 2 (by omega)).mp y))]
          by_cases z3 : cT 3 = t
          · rw [if_pos ((inj t ht 3 (by omega)).mpr z3), ← z3, m1 3 (by omega)]
            show some (K 3) = some (A 0 ((3 : Nat) : Int))
            rw [hA 3 (by omega)]
          · rw [if_neg (fun y => z3 ((inj t ht 3 (by omega)).mp y)), m2 t (fun j hj => by
              have : j = 0 ∨ j = 1 ∨ j = 2 ∨ j = 3 := by omega
              rcases this with rfl | rfl | rfl | rfl
              · exact fun y => z0 y.symm
              · exact fun y => z1 y.symm
              · exact fun y => z2 y.symm
              · exact fun y => z3 y.symm)]
            rfl
  have a7 : ∀ k, 0 ≤ k → k < U 3 w → hK v.1 (A 0 k) = 7 := fun k h0 h1 => by
    rw [kA k h0 h1]
    exact (kk k.toNat (by omega)).1
  have kmp : KMp v (R 5) (A 0) U w 0 := ⟨fun t ht _ p hp => mp t ht p hp, a7, by rw [c5]; exact k1, by omega⟩
  have ml : ML v (R 9) (insA [] []) := by
    refine ⟨⟨[], ⟨by rw [c9]; exact k5, by rw [c9, e5]; rfl, fun e he => by simp at he⟩, rfl⟩, ?_⟩
    rw [c9, p5]
    exact Nat.zero_le _
  have rk : RK v (R 3) (R 4) U w (A 0) := by
    refine ⟨ku, by rw [c4]; exact q0, by rw [c4]; exact k0, ?_, fun k h0 h1 => ?_⟩
    · rw [c4, ls, u3]
      unfold rowL
      apply List.map_congr_left
      intro j hj
      have := List.mem_range.mp hj
      show some (K j) = some (A 0 (0 + (j : Int)))
      rw [Int.zero_add, hA j (by omega)]
    · obtain ⟨a1, a2, a3, a4⟩ := kk k.toNat (by omega)
      have ek : ((k.toNat : Nat) : Int) = k := by omega
      have u5 := (uk k.toNat (by omega)).2.1
      rw [ek] at a2 u5
      rw [kA k h0 h1]
      refine ⟨a1, a2, by rw [u5]; exact a4, ?_⟩
      rw [a3]
      have : k = 0 ∨ k = 1 ∨ k = 2 ∨ k = 3 := by omega
      rcases this with rfl | rfl | rfl | rfl
      · exact hO.1
      · show O 1 = some (A 0 ((0 : Nat) : Int))
        rw [hA 0 (by omega)]; exact hO.2.1
      · show O 2 = some (A 0 ((1 : Nat) : Int))
        rw [hA 1 (by omega)]; exact hO.2.2.1
      · show O 3 = some (A 0 ((0 : Nat) : Int))
        rw [hA 0 (by omega)]; exact hO.2.2.2
  have kl5 : KL v (R 5) (U 3 w) := by
    refine ⟨[cT 0, cT 1, cT 2, cT 3], by rw [u3]; decide, fun s z hz => ?_⟩
    rw [c5] at hz
    have : ∃ j, j < 4 ∧ s = cT j := Classical.byContradiction fun y => by
      rw [m2 s (fun j hj e => y ⟨j, hj, e⟩)] at hz
      cases hz
    obtain ⟨j, hj, e⟩ := this
    have q : j = 0 ∨ j = 1 ∨ j = 2 ∨ j = 3 := by omega
    rw [e]
    refine ⟨?_, (cT_ok j hj).1, ?_⟩
    · rcases q with rfl | rfl | rfl | rfl <;> simp
    · rcases q with rfl | rfl | rfl | rfl <;> decide
  have mt : MT R A T w v U ov := by
    refine ⟨⟨by rw [c6]; exact q2, by rw [c6]; exact k2, by rw [c6, e2, u9]; rfl⟩, ⟨by rw [c7]; exact q3, ⟨by rw [c7]; exact k3, fun t ht => ?_⟩, ⟨[], by rw [u9]; decide, fun s z hz => ?_⟩⟩, ⟨hT.1, hT.2.1, by omega, by omega⟩, fun m h0 h1 => by omega⟩
    · rw [c7, e3]
      unfold mO
      rw [u9]
      rfl
    · rw [c7, e3] at hz
      cases hz
  refine ⟨⟨⟨rk, by rw [c9]; exact q5, by rw [c8]; exact q4, by rw [c8]; exact k4, by rw [c8, e4, u19]; rfl⟩, ⟨by rw [c5]; exact q1, kmp, kl5, by decide⟩, mt, ⟨tg, hT.2.2.1, hT.2.2.2, by omega, by rw [c9]; exact k5⟩, fun s hs => (noS s hs).elim, fun b hb => (noB b hb).elim, fun s hs => (noS s hs).elim, fun c hc => (noS _ hc).elim, fun c d hc => (noS _ hc).elim⟩, ml⟩
theorem JP_0 {c l g : Int → Int} (cl : CLR w U) (qv : QV U) (w0 : 0 ≤ w ∧ w ≤ 1) : JP w g U c l := by
  obtain ⟨⟨u3, u9, u19, u40⟩, _⟩ := cl
  have noS : ∀ s, ¬ As w U s := fun s hs => by have := hs.1; have := hs.2; omega
  have noB : ∀ b, ¬ Ab w U b := fun b hb => by have := hb.1; have := hb.2; omega
  have pq : PQ w U := ⟨fun s hs => (noS s hs).elim, fun b hb => (noB b hb).elim, fun k h0 h1 => by omega⟩
  have pk : PK w U U := ⟨by omega, fun k h1 h2 => by omega, fun k q h1 h2 h3 => by omega⟩
  have qw : QW w U := PQ_QW pq qv pk (by omega)
  exact ⟨⟨fun b hb => (noB b hb).elim, fun s hs => (noS s hs).elim, fun m h0 h1 => by omega, fun b hb => (noB b hb).elim, fun b hb => (noB b hb).elim⟩, ⟨pq, qv, qw, w0.1, w0.2, fun s hs => (noS s hs).elim⟩, fun s hs => (noS s hs).elim, fun b d hb => (noB b hb).elim, fun b hb => (noB b hb).elim⟩
theorem mAll_0 {c l : Int → Int} (cl : CLR w U) : mAll U w c l = [] := by
  obtain ⟨⟨u3, u9, u19, u40⟩, _⟩ := cl
  unfold mAll
  rw [u3, u9, u19]
  rfl
end AX0
/-- tags of a new unit's lists -/
def T0 (u a : Nat) : Nat := if a = u + 1 ∨ a = u + 3 then 6 else if a = u + 5 ∨ a = u + 6 then 3 else 0
section AX1
variable {x r : Nat} {h : am_H} {v : vT} {Q : am_O → am_H → Prop}
theorem UNi_fw {v' : vT} {u n : Nat} {K : Nat → Nat} {O : Nat → Option Nat} (f : Fw (fun a _ => a = x) v v') (un : UNi v u n K O 4) (kx : hK v.1 x = 1) : UNi v' u n K O 4 := by
  obtain ⟨⟨⟨ku, q0, q1, q2, q3, q4, q5⟩, k0, k1, k2, k3, k4, k5⟩, ls, m1, m2, kk, ⟨e2, e4, e5, p5⟩, e3⟩ := un
  have nx : ∀ {a n : Nat}, hK v.1 a = n → n ≠ 1 → a ≠ x := fun {a n} e h y => by rw [y, kx] at e; omega
  have ru := fun k => (f.ff (k := k) (hK_lt ku (by decide)) (nx ku (by decide))).2.2
  have cc : ∀ {a n : Nat}, hK v.1 a = n → n ≠ 0 → n ≠ 1 → vLs v' a = vLs v a ∧ vMp v' a = vMp v a ∧ vCp v' a = vCp v a ∧ vTx v' a = vTx v a := fun {a n} e h0 h1 => f.cc (hK_lt e h0) (nx e h1)
  refine ⟨⟨⟨f.kk ku (by decide), by rw [ru 0]; exact q0, by rw [ru 1]; exact q1, by rw [ru 2]; exact q2, by rw [ru 3]; exact q3, by rw [ru 4]; exact q4, by rw [ru 5]; exact q5⟩, f.kk k0 (by decide), f.kk k1 (by decide), f.kk k2 (by decide), f.kk k3 (by decide), f.kk k4 (by decide), f.kk k5 (by decide)⟩, by rw [(cc k0 (by decide) (by decide)).1]; exact ls, fun j hj => by rw [(cc k1 (by decide) (by decide)).2.1]; exact m1 j hj, fun t ht => by rw [(cc k1 (by decide) (by decide)).2.1]; exact m2 t ht, fun j hj => ?_, ⟨by rw [(cc k2 (by decide) (by decide)).1]; exact e2, by rw [(cc k4 (by decide) (by decide)).1]; exact e4, by rw [(cc k5 (by decide) (by decide)).1]; exact e5, by rw [(cc k5 (by decide) (by decide)).2.2.1]; exact p5⟩, fun t => by rw [(cc k3 (by decide) (by decide)).2.1]; exact e3 t⟩
  obtain ⟨a1, a2, a3, a4⟩ := kk j hj
  have fj := fun k => f.ff (k := k) (hK_lt a1 (by decide)) (nx a1 (by decide))
  exact ⟨f.kk a1 (by decide), by rw [(fj 1).1]; exact a2, by rw [(fj 2).2.2]; exact a3, by rw [(fj 3).1]; exact a4⟩
theorem SL_0 : SL tZ := by
  refine ⟨fun j => by unfold tZ; omega, by unfold tZ; omega, by unfold tZ; omega, by unfold tZ; omega, fun j => ?_⟩
  unfold tZ
  exact ⟨sOk0, by omega⟩
theorem c_rules0 (c : CR h v) (kx : hK v.1 x = 1) (i1 : hI v.1 x 1 = 0) (cs : CS v) (q : ∀ h' v' rd tp wr wk C R A T, CR h' v' → AX v' x rd tp wr wk C R A T 0 (fun _ => 1) 0 tZ (tClear 0 tZ) → Fw (fun a _ => a = x) v v' → CS v' → (hN v.1 ≤ hN v'.1 ∧ hN v'.1 ≤ hN v.1 + 110) → (hS v.1 ≤ hS v'.1 ∧ hS v'.1 ≤ hS v.1 + 3700) → Q (Sum.inl none) h') : Cl (r + 1) 1 [vR (some x)] h Q := by
  have lx := hK_lt kx (by decide)
  have nn := c.hn
  have n2000 : ((2000 : Int32)).toNatClampNeg = 2000 := by decide
  rw [eX0_init, sX0_init_0, sX0_init_1, sX0_init_4, sX0_init_5, sX0_init_8 (by decide), n2000, nn]
  -- the tape
  have c1 := CR_nw (m := 44) (n := 2000) c rfl
  have f1 : Fw (fun _ _ => False) v (vnw v 44 2000) := Fw.refl.nw
  have kt1 : hK (vnw v 44 2000).1 (hN v.1) = 44 := nw_k
  have lt1 : hL (vnw v 44 2000).1 (hN v.1) = 2000 := by rw [vnw_1, hL_newC, if_pos rfl]
  have zt1 : ∀ k, hI (vnw v 44 2000).1 (hN v.1) k = 0 := fun k => by rw [vnw_1, hI_newC, if_pos rfl]
  have n1 : hN (vnw v 44 2000).1 = hN v.1 + 1 := rfl
  have s1 : hS (vnw v 44 2000).1 = hS v.1 + 2000 := rfl
  generalize vnw v 44 2000 = v1 at *
  generalize newC h 44 2000 = h1 at *
  have kx1 := f1.kk kx (by decide)
  rw [sX0_init_10 (c1.kk kx1 (by decide))]
  have c2 := CR_pR (k := 0) (z := some (hN v.1)) c1 kx1 rfl
  have f2 : Fw (fun a k => a = x ∧ k = 0) v1 (vpR v1 x 0 (some (hN v.1))) := Fw.refl.pR (Or.inr ⟨rfl, rfl⟩)
  have e20 : hR (vpR v1 x 0 (some (hN v.1))).1 x 0 = some (hN v.1) := by rw [vpR_1, hR_putR, if_pos ⟨rfl, rfl⟩]
  have n2 : hN (vpR v1 x 0 (some (hN v.1))).1 = hN v1.1 := rfl
  have s2 : hS (vpR v1 x 0 (some (hN v.1))).1 = hS v1.1 := rfl
  generalize vpR v1 x 0 (some (hN v.1)) = v2 at *
  generalize putR h1 x 0 (some (hN v.1)) = h2 at *
  -- the reader
  have nn2 := c2.hn
  rw [sX0_init_13, sX0_init_14, sX0_init_17, sX0_init_18 (by rw [nw_h]; decide) (by rw [nw_h]; decide), nn2]
  have c3 := CR_nw (m := 2) (n := 18) c2 rfl
  have f3 : Fw (fun _ _ => False) v2 (vnw v2 2 18) := Fw.refl.nw
  have kr3 : hK (vnw v2 2 18).1 (hN v2.1) = 2 := nw_k
  have n3 : hN (vnw v2 2 18).1 = hN v2.1 + 1 := rfl
  have s3 : hS (vnw v2 2 18).1 = hS v2.1 + 18 := rfl
  generalize vnw v2 2 18 = v3 at *
  refine c_reader0 c3 kr3 (fun h4 v4 c4 f4 rw4 rl4 kl4 n4 s4 => ?_)
  have kx2 := f2.kk kx1 (by decide)
  have kx3 := f3.kk kx2 (by decide)
  have kx4 := f4.kk kx3 (by decide)
  rw [Kt_0, sX0_init_21 (c4.kk kx4 (by decide))]
  have c5 := CR_pR (k := 2) (z := some (hN v2.1)) c4 kx4 rfl
  have f5 : Fw (fun a k => a = x ∧ k = 2) v4 (vpR v4 x 2 (some (hN v2.1))) := Fw.refl.pR (Or.inr ⟨rfl, rfl⟩)
  have e52 : hR (vpR v4 x 2 (some (hN v2.1))).1 x 2 = some (hN v2.1) := by rw [vpR_1, hR_putR, if_pos ⟨rfl, rfl⟩]
  have n5 : hN (vpR v4 x 2 (some (hN v2.1))).1 = hN v4.1 := rfl
  have s5 : hS (vpR v4 x 2 (some (hN v2.1))).1 = hS v4.1 := rfl
  generalize vpR v4 x 2 (some (hN v2.1)) = v5 at *
  generalize putR h4 x 2 (some (hN v2.1)) = h5 at *
  -- the unit
  have nn5 := c5.hn
  rw [sX0_init_24, sX0_init_25, sX0_init_28, sX0_init_29 (by rw [nw_h]; decide) (by rw [nw_h]; decide), nn5]
  have c6 := CR_nw (m := 5) (n := 6) c5 rfl
  have f6 : Fw (fun _ _ => False) v5 (vnw v5 5 6) := Fw.refl.nw
  have ku6 : hK (vnw v5 5 6).1 (hN v5.1) = 5 := nw_k
  have n6 : hN (vnw v5 5 6).1 = hN v5.1 + 1 := rfl
  have s6 : hS (vnw v5 5 6).1 = hS v5.1 + 6 := rfl
  generalize vnw v5 5 6 = v6 at *
  -- frames so far
  have lx1 : x < hN v1.1 := by omega
  have F1 : Fw (fun a _ => a = x) v v1 := f1.mono (fun _ _ y => y.elim)
  have F2 : Fw (fun a _ => a = x) v v2 := F1.tr2 f2 (fun a k y => Or.inr y.1)
  have F3 : Fw (fun a _ => a = x) v v3 := F2.tr2 f3 (fun a k y => y.elim)
  have F4 : Fw (fun a _ => a = x) v v4 := F3.tr2 f4 (fun a k y => Or.inl (by rw [y]; omega))
  have F5 : Fw (fun a _ => a = x) v v5 := F4.tr2 f5 (fun a k y => Or.inr y.1)
  have F6 : Fw (fun a _ => a = x) v v6 := F5.tr2 f6 (fun a k y => y.elim)
  have cs6 : CS v6 := CS_fw F6 cs (fun a y => by rw [y, kx]; decide)
  refine c_unit c6 ku6 cs6 (fun h7 v7 K O c7 cs7 f7 un7 hO kK n7 t7 s7 => ?_)
  have kx5 := f5.kk kx4 (by decide)
  have kx6 := f6.kk kx5 (by decide)
  have kx7 := f7.kk kx6 (by decide)
  have le7 := f7.1
  rw [Kt_0, sX0_init_32 (c7.kk kx7 (by decide))]
  have c8 := CR_pR (k := 3) (z := some (hN v5.1)) c7 kx7 rfl
  have f8 : Fw (fun a k => a = x ∧ k = 3) v7 (vpR v7 x 3 (some (hN v5.1))) := Fw.refl.pR (Or.inr ⟨rfl, rfl⟩)
  have e83 : hR (vpR v7 x 3 (some (hN v5.1))).1 x 3 = some (hN v5.1) := by rw [vpR_1, hR_putR, if_pos ⟨rfl, rfl⟩]
  have n8 : hN (vpR v7 x 3 (some (hN v5.1))).1 = hN v7.1 := rfl
  have s8 : hS (vpR v7 x 3 (some (hN v5.1))).1 = hS v7.1 := rfl
  generalize vpR v7 x 3 (some (hN v5.1)) = v8 at *
  generalize putR h7 x 3 (some (hN v5.1)) = h8 at *
  -- the walker
  have nn8 := c8.hn
  rw [sX0_init_35, sX0_init_36, sX0_init_39, sX0_init_40 (by rw [nw_h]; decide) (by rw [nw_h]; decide), nn8]
  have c9 := CR_nw (m := 14) (n := 5) c8 rfl
  have f9 : Fw (fun _ _ => False) v8 (vnw v8 14 5) := Fw.refl.nw
  have kw9 : hK (vnw v8 14 5).1 (hN v8.1) = 14 := nw_k
  have zw9 : hI (vnw v8 14 5).1 (hN v8.1) 4 = 0 := by rw [vnw_1, hI_newC, if_pos rfl]
  have n9 : hN (vnw v8 14 5).1 = hN v8.1 + 1 := rfl
  have s9 : hS (vnw v8 14 5).1 = hS v8.1 + 5 := rfl
  generalize vnw v8 14 5 = v9 at *
  have kx8 := f8.kk kx7 (by decide)
  have kx9 := f9.kk kx8 (by decide)
  refine c_walk0 ?_
  rw [Kt_0, sX0_init_43 (c9.kk kx9 (by decide)), sX0_init_46]
  have ca := CR_pR (k := 4) (z := some (hN v8.1)) c9 kx9 rfl
  have fa : Fw (fun a k => a = x ∧ k = 4) v9 (vpR v9 x 4 (some (hN v8.1))) := Fw.refl.pR (Or.inr ⟨rfl, rfl⟩)
  have ea4 : hR (vpR v9 x 4 (some (hN v8.1))).1 x 4 = some (hN v8.1) := by rw [vpR_1, hR_putR, if_pos ⟨rfl, rfl⟩]
  have na : hN (vpR v9 x 4 (some (hN v8.1))).1 = hN v9.1 := rfl
  have sa : hS (vpR v9 x 4 (some (hN v8.1))).1 = hS v9.1 := rfl
  generalize vpR v9 x 4 (some (hN v8.1)) = va at *
  have kxa := fa.kk kx9 (by decide)
  have F7 : Fw (fun a _ => a = x) v v7 := F6.tr2 f7 (fun a k y => Or.inl (by rw [y]; omega))
  have F8 : Fw (fun a _ => a = x) v v8 := F7.tr2 f8 (fun a k y => Or.inr y.1)
  have F9 : Fw (fun a _ => a = x) v v9 := F8.tr2 f9 (fun a k y => y.elim)
  have Fa : Fw (fun a _ => a = x) v va := F9.tr2 fa (fun a k y => Or.inr y.1)
  have csa : CS va := CS_fw Fa cs (fun a y => by rw [y, kx]; decide)
  -- from v7 on, and from v4 on
  have G8 : Fw (fun a _ => a = x) v7 v8 := f8.mono (fun _ _ y => y.1)
  have G9 : Fw (fun a _ => a = x) v7 va := (G8.tr2 f9 (fun a k y => y.elim)).tr2 fa (fun a k y => Or.inr y.1)
  have H5 : Fw (fun a _ => a = x) v4 v7 := ((f5.mono (fun _ _ y => y.1)).tr2 f6 (fun a k y => y.elim)).tr2 f7 (fun a k y => Or.inl (by rw [y]; omega))
  have H9 : Fw (fun a _ => a = x) v4 va := H5.tr2 G9 (fun a k y => Or.inr y)
  have I3 : Fw (fun a _ => a = x) v1 va := (((f2.mono (fun _ _ y => y.1)).tr2 f3 (fun a k y => y.elim)).tr2 f4 (fun a k y => Or.inl (by rw [y]; omega))).tr2 H9 (fun a k y => Or.inr y)
  have nx : ∀ {u : vT} {a n : Nat}, hK u.1 a = n → hK u.1 x = 1 → n ≠ 1 → a ≠ x := fun {u a n} e k1 h y => by rw [y, k1] at e; omega
  have kra := H9.kk rw4.1 (by decide)
  have lr4 := hK_lt rw4.1 (by decide)
  have rr : ∀ k, hR va.1 (hN v2.1) k = hR v4.1 (hN v2.1) k := fun k => (H9.ff lr4 (nx rw4.1 kx4 (by decide))).2.2
  have rda : RdS va (hN v2.1) (hN v.1) (hN v3.1) (fun i => hN v3.1 + (i - 9)) (tZ 0) := by
    refine ⟨⟨kra, by rw [rr 0]; exact rw4.2.1, H9.kk rw4.2.2 (by decide)⟩, ⟨I3.kk kt1 (by decide), by rw [(I3.2.2 _ (hK_lt kt1 (by decide))).2.1]; exact lt1, fun p p0 p1 => ?_⟩, ⟨by rw [rr 10]; exact rl4.1, by rw [rr 11]; exact rl4.2.1, by rw [rr 12]; exact rl4.2.2.1, by rw [rr 13]; exact rl4.2.2.2.1, by rw [rr 17]; exact rl4.2.2.2.2⟩, fun i h1 h2 => H9.kk (kl4 (i - 9) (by omega) (by omega)) (by decide), ?_, csa⟩
    · rw [(I3.ff (hK_lt kt1 (by decide)) (nx kt1 kx1 (by decide))).1, zt1]
      rfl
    · dsimp only
      omega
  have un : UNi va (hN v5.1) (hN v6.1) K O 4 := UNi_fw G9 un7 kx7
  have cl := CLR_clear (w := 0) (U := tZ)
  have qv : QV (tClear 0 tZ) := QV_clear QV_tZ
  have nz : ∀ a, T0 (hN v5.1) a ≠ 0 → hK va.1 a = 4 := fun a ha => by
    obtain ⟨⟨_, k0, _, k2, _, k4, k5⟩, _⟩ := un
    unfold T0 at ha
    have e1 : hN v5.1 + 1 = hN v6.1 := by omega
    have e3 : hN v5.1 + 3 = hN v6.1 + 2 := by omega
    have e5 : hN v5.1 + 5 = hN v6.1 + 4 := by omega
    have e6 : hN v5.1 + 6 = hN v6.1 + 5 := by omega
    by_cases z1 : a = hN v5.1 + 1
    · rw [z1, e1]; exact k0
    · by_cases z3 : a = hN v5.1 + 3
      · rw [z3, e3]; exact k2
      · by_cases z5 : a = hN v5.1 + 5
        · rw [z5, e5]; exact k4
        · by_cases z6 : a = hN v5.1 + 6
          · rw [z6, e6]; exact k5
          · rw [if_neg (by omega), if_neg (by omega)] at ha
            exact absurd rfl ha
  have tg : TG va (T0 (hN v5.1)) ∧ TZ va (T0 (hN v5.1)) := by
    refine ⟨fun a h0 h4 h22 => ?_, fun a ha => ?_⟩
    · exact Classical.byContradiction fun z => h4 (nz a z)
    · refine Classical.byContradiction fun z => ?_
      have := hK_lt (nz a z) (by decide)
      omega
  obtain ⟨gu, ml⟩ := GU_0 (R := fun i => if i < 3 then 0 else hN v5.1 + (i - 3)) (A := fun f j => if f = 0 then K j.toNat else 0) (T := T0 (hN v5.1)) (w := 0) (U := tClear 0 tZ) (oc := ocL (tClear 0 tZ) 0 (fun f j => if f = 0 then K j.toNat else 0) (stL (tClear 0 tZ) 0 (fun s => decide (tClear 0 tZ 20 s = 1)))) (cl0 := clL (tClear 0 tZ) 0 (fun f j => if f = 0 then K j.toNat else 0) (stL (tClear 0 tZ) 0 (fun s => decide (tClear 0 tZ 20 s = 9)))) (ov := ovL (tClear 0 tZ) 0 (fun f j => if f = 0 then K j.toNat else 0) (tClear 0 tZ 9 0)) (n := hN v6.1) un hO ⟨by show hN v5.1 + 1 = _; omega, by show hN v5.1 + 2 = _; omega, by show hN v5.1 + 3 = _; omega, by show hN v5.1 + 4 = _; omega, by show hN v5.1 + 5 = _; omega, by show hN v5.1 + 6 = _; omega⟩ (fun j hj => rfl) ⟨by show T0 (hN v5.1) (hN v5.1 + 1) = 6; unfold T0; rw [if_pos (Or.inl rfl)], by show T0 (hN v5.1) (hN v5.1 + 3) = 6; unfold T0; rw [if_pos (Or.inr rfl)], by show T0 (hN v5.1) (hN v5.1 + 5) = 3; unfold T0; rw [if_neg (by omega), if_pos (Or.inl rfl)], by show T0 (hN v5.1) (hN v5.1 + 6) = 3; unfold T0; rw [if_neg (by omega), if_pos (Or.inr rfl)]⟩ tg cl
  have ma : mAll (tClear 0 tZ) 0 (tZ 58) (tZ 59) = [] := mAll_0 cl
  have fx : ∀ {u u' : vT} {j k : Nat} (f : Fw (fun a i => a = x ∧ i = j) u u'), x < hN u.1 → k ≠ j → hR u'.1 x k = hR u.1 x k ∧ hI u'.1 x k = hI u.1 x k := fun f hl hk => by
    have := f.ff hl (fun y => hk y.2)
    exact ⟨this.2.2, this.1⟩
  have fn : ∀ {u u' : vT} (f : Fw (fun _ _ => False) u u') (k : Nat), x < hN u.1 → hR u'.1 x k = hR u.1 x k ∧ hI u'.1 x k = hI u.1 x k := fun f k hl => by
    have := f.ff (k := k) hl (fun y => y)
    exact ⟨this.2.2, this.1⟩
  have fo : ∀ {u u' : vT} {b : Nat} (f : Fw (fun a _ => a = b) u u') (k : Nat), x < hN u.1 → x ≠ b → hR u'.1 x k = hR u.1 x k ∧ hI u'.1 x k = hI u.1 x k := fun f k hl hb => by
    have := f.ff (k := k) hl hb
    exact ⟨this.2.2, this.1⟩
  have lx2 : x < hN v2.1 := by omega
  have lx3 : x < hN v3.1 := by omega
  have lx4 : x < hN v4.1 := by omega
  have lx5 : x < hN v5.1 := by omega
  have lx6 : x < hN v6.1 := by omega
  have lx7 : x < hN v7.1 := hK_lt kx7 (by decide)
  have lx8 : x < hN v8.1 := by omega
  have lx9 : x < hN v9.1 := by omega
  have xr : x ≠ hN v2.1 := by omega
  have xu : x ≠ hN v5.1 := by omega
  have J0 : ∃ R A T, AX va x (hN v2.1) (hN v.1) (hN v3.1) (hN v8.1) (fun i => hN v3.1 + (i - 9)) R A T 0 (fun _ => 1) 0 tZ (tClear 0 tZ) := by
    refine ⟨_, _, _, ⟨kxa, ?_, ?_, ?_, ?_, ea4⟩, ⟨fa.kk kw9 (by decide), ?_⟩, rda, ⟨gu, ?_, ⟨fun k hk => ?_, fun k hk => ?_⟩⟩, JP_0 cl qv (by omega), fun i h1 h2 => ?_, ⟨⟨?_, ?_⟩, fun j j0 j1 => ?_⟩, SL_0⟩
    · rw [(fx fa lx9 (by decide)).1, (fn f9 0 lx8).1, (fx f8 lx7 (by decide)).1, (fo f7 0 lx6 xu).1, (fn f6 0 lx5).1, (fx f5 lx4 (by decide)).1, (fo f4 0 lx3 xr).1, (fn f3 0 lx2).1]; exact e20
    · rw [(fx fa lx9 (by decide)).2, (fn f9 1 lx8).2, (fx f8 lx7 (by decide)).2, (fo f7 1 lx6 xu).2, (fn f6 1 lx5).2, (fx f5 lx4 (by decide)).2, (fo f4 1 lx3 xr).2, (fn f3 1 lx2).2, (fx f2 lx1 (by decide)).2, (fn f1 1 lx).2]; exact i1
    · rw [(fx fa lx9 (by decide)).1, (fn f9 2 lx8).1, (fx f8 lx7 (by decide)).1, (fo f7 2 lx6 xu).1, (fn f6 2 lx5).1]; exact e52
    · rw [(fx fa lx9 (by decide)).1, (fn f9 3 lx8).1]; exact e83
    · rw [(fa.ff (hK_lt kw9 (by decide)) (fun y => by rw [y.1, kx9] at kw9; omega)).1, zw9]; rfl
    · rw [ma]; exact ml
    · exfalso; have := hk.1; have := hk.2; have := cl.1.2.2.2; omega
    · exfalso; have := hk.1; have := hk.2; have := cl.1.2.2.1; omega
    · show T0 (hN v5.1) (hN v3.1 + (i - 9)) = 0
      unfold T0
      rw [if_neg (by omega), if_neg (by omega)]
    · rw [ma]; rfl
    · show (0 : Int) ≤ 4000; decide
    · exact absurd j1 (by show ¬ j < 0; omega)
  obtain ⟨R, A, T, ax⟩ := J0
  exact q _ va _ _ _ _ _ R A T ca ax Fa csa ⟨by omega, by omega⟩ ⟨by omega, by omega⟩
end AX1
