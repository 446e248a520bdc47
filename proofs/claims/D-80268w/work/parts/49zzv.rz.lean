/-! JDK: maps, 15: resize *-/
/-- the inside of a map that has a table -/
def MS (g : Nat → Nat) (h : am_H) (v : vT) (m t n : Nat) (NS : List Nat) : Prop :=
  NS.Nodup ∧ (∀ x, x ∈ NS → isNd g h v m x) ∧ (∀ x y, x ∈ NS → y ∈ NS → ndT h v x = ndT h v y → x = y) ∧ (∀ s z, vMp v m s = some z → ∃ x, x ∈ NS ∧ ndT h v x = s) ∧ hR h m 2 = some t ∧ (n = 16 ∨ n = 32 ∨ n = 64) ∧ hI h m 6 = iI ((n / 4 * 3 : Nat) : Int) ∧ isTb g h v m t n NS
section RZL
variable {g g' g2 : Nat → Nat} {h h' h2 : am_H} {v : vT} {r m t n x : Nat} {NS : List Nat} {Q : am_O → am_H → Prop}
theorem Chg.refl : Chg g g h h m := ⟨Nat.le_refl _, fun _ => rfl, fun _ _ => ⟨rfl, rfl, rfl, fun _ _ => ⟨rfl, rfl, rfl⟩⟩⟩
theorem Chg.trans (c : Chg g g' h h' m) (d : Chg g' g2 h' h2 m) : Chg g g2 h h2 m := by
  obtain ⟨c1, c2, c3⟩ := c
  obtain ⟨d1, d2, d3⟩ := d
  refine ⟨by omega, fun k => (d2 k).trans (c2 k), fun b hb => ?_⟩
  obtain ⟨x1, x2, x3, x4⟩ := c3 b hb
  obtain ⟨y1, y2, y3, y4⟩ := d3 b (by omega)
  refine ⟨y1.trans x1, y2.trans x2, y3.trans x3, fun q k => ?_⟩
  obtain ⟨a1, a2, a3⟩ := x4 q k
  obtain ⟨b1, b2, b3⟩ := y4 (by rw [x1]; exact q) k
  exact ⟨b1.trans a1, b2.trans a2, b3.trans a3⟩
theorem isNd_k (d : isNd g h v m x) (hg : g' x = g x) (hn : hN h ≤ hN h') (hk : hK h' x = hK h x) (h0 : hI h' x 0 = hI h x 0) (h1 : hR h' x 1 = hR h x 1) (h2' : hR h' x 2 = hR h x 2) : isNd g' h' v m x := by
  obtain ⟨n1, n2, n3, k, z, n4, n5, n6, n7, n8, n9, n10⟩ := d
  exact ⟨by rw [hg]; exact n1, by omega, by rw [hk]; exact n3, k, z, by rw [h1]; exact n4, by omega, n6, n7, by rw [h0]; exact n8, by rw [h2']; exact n9, n10⟩
theorem ndT_k (h1 : hR h' x 1 = hR h x 1) : ndT h' v x = ndT h v x := by unfold ndT; rw [h1]
/-- the first table -/
theorem v_resize0 (km : hK h m = 6) (lm : m < hN h) (e : hR h m 2 = none) (e6 : hI h m 6 = 0) : Cl r 206 [vR (some m)] h Q ↔ Q (Sum.inl (some (vR (some (hN h))))) (putR (newC (putI h m 6 12) 48 16) m 2 (some (hN h))) := by
  have k2 : hK (newC (putI h m 6 12) 48 16) m = 6 := by rw [hK_newC, if_neg (by show m ≠ hN h; omega)]; exact km
  have nz : ¬ ((12 : Int32) = 0) := by decide
  rw [eJ7_resize, sJ7_resize_0, sJ7_resize_1 km, e, sJ7_resize_4, sJ7_resize_5, sJ7_resize_6, if_neg (fun w => w rfl), sJ7_resize_9, sJ7_resize_10, sJ7_resize_15, sJ7_resize_16, sJ7_resize_17 km, e6, sJ7_resize_20, sJ7_resize_21, sJ7_resize_22, sJ7_resize_24, sJ7_resize_25, if_pos (by decide), sJ7_resize_67, sJ7_resize_68, if_pos (by decide), sJ7_resize_77, sJ7_resize_79, sJ7_resize_81, sJ7_resize_83, sJ7_resize_85, sJ7_resize_87, if_pos nz, sJ7_resize_125, sJ7_resize_126, sJ7_resize_128 km, sJ7_resize_131, sJ7_resize_133 (by decide), sJ7_resize_136, sJ7_resize_138, sJ7_resize_139, show ((16 : Int32)).toNatClampNeg = 16 from rfl, sJ7_resize_141 k2, sJ7_resize_144, sJ7_resize_145, if_pos rfl, sJ7_resize_353, sJ7_resize_355]
  rfl
/-- a table of twice the length -/
theorem v_resize2 (hn : n = 16 ∨ n = 32) (ms : MS g h v m t n NS) (km : hK h m = 6) (gm : g m = m) (lm : m < hN h)
    (post : ∀ h', Chg g (gN g (hN h) m) h h' m → MS (gN g (hN h) m) h' v m (hN h) (2 * n) NS → hN h' = hN h + 1 → hS h' = hS h + 2 * n → (∀ k, k ≠ 6 → hI h' m k = hI h m k) → Q (Sum.inl (some (vR (some (hN h))))) h') : Cl r 206 [vR (some m)] h Q := by
  obtain ⟨s1, s2, s3, s4, s5, s6, s7, ⟨u1, u2, u3, u4, u5⟩⟩ := ms
  have n64 : 16 ≤ n ∧ n ≤ 32 := by rcases hn with z | z <;> omega
  have k2 : hK (newC (putI h m 6 (iI ((2 * n / 4 * 3 : Nat) : Int))) 48 (2 * n)) m = 6 := by rw [hK_newC, if_neg (by show m ≠ hN h; omega)]; exact km
  have e1 : iI n <<< ((1 : Int32) &&& 31) = iI ((2 * n : Nat) : Int) := by rcases hn with rfl | rfl <;> decide
  have e2 : iI ((n / 4 * 3 : Nat) : Int) <<< ((1 : Int32) &&& 31) = iI ((2 * n / 4 * 3 : Nat) : Int) := by rcases hn with rfl | rfl <;> decide
  have nz : iI ((2 * n / 4 * 3 : Nat) : Int) ≠ 0 := by rcases hn with rfl | rfl <;> decide
  have big : (1073741824 : Int32) = iI 1073741824 := rfl
  have x12 : ∀ x, x ∈ NS → hK h x = 12 := fun x hx => by
    have lt := (bIx_lt n (by omega) (hI h x 0)).1
    rcases u5 _ lt with ⟨xs, _, _, k12, mem⟩ | ⟨z, _⟩
    · exact k12 x ((mem x).mpr ⟨hx, rfl⟩)
    · omega
  rw [eJ7_resize, sJ7_resize_0, sJ7_resize_1 km, s5, sJ7_resize_4, sJ7_resize_5, sJ7_resize_6, if_pos (by simp), sJ7_resize_13, sJ7_resize_14 (by omega) (by omega), u4, iI_nI, sJ7_resize_15, sJ7_resize_16, sJ7_resize_17 km, s7, sJ7_resize_20, sJ7_resize_21, sJ7_resize_22, sJ7_resize_24, sJ7_resize_25, if_neg (by rw [i_0, iI_le (by omega) (by omega) (by omega) (by omega)]; omega), sJ7_resize_28, sJ7_resize_29, sJ7_resize_31, if_pos (by rw [big, iI_lt (by omega) (by omega) (by omega) (by omega)]; omega), sJ7_resize_42, sJ7_resize_43, sJ7_resize_44, e1, sJ7_resize_45, sJ7_resize_46, sJ7_resize_48, sJ7_resize_50, if_neg (by rw [big, iI_le (by omega) (by omega) (by omega) (by omega)]; omega), sJ7_resize_53, sJ7_resize_54, sJ7_resize_56, if_neg (by rw [i_16, iI_lt (by omega) (by omega) (by omega) (by omega)]; omega), sJ7_resize_59, sJ7_resize_60, sJ7_resize_61, e2, sJ7_resize_62, sJ7_resize_64, sJ7_resize_85, sJ7_resize_87, if_pos nz, sJ7_resize_125, sJ7_resize_126, sJ7_resize_128 km, sJ7_resize_131, sJ7_resize_133 (by rw [nn_i (by omega), i_0, iI_lt (by omega) (by omega) (by omega) (by omega)]; omega), nn_i (by omega), sJ7_resize_136, sJ7_resize_138, sJ7_resize_139, sJ7_resize_141 k2, sJ7_resize_144, sJ7_resize_145, if_neg (by simp), sJ7_resize_148, sJ7_resize_149]
  have hNp : hN (putI h m 6 (iI ((2 * n / 4 * 3 : Nat) : Int))) = hN h := rfl
  -- the heap with the new table, still empty
  have o1 : ∀ b, b < hN h → hK (putR (newC (putI h m 6 (iI ((2 * n / 4 * 3 : Nat) : Int))) 48 (2 * n)) m 2 (some (hN h))) b = hK h b := fun b hb => by rw [hK_putR, hK_newC, hNp, if_neg (by omega), hK_putI]
  have o2 : ∀ b, b < hN h → hL (putR (newC (putI h m 6 (iI ((2 * n / 4 * 3 : Nat) : Int))) 48 (2 * n)) m 2 (some (hN h))) b = hL h b := fun b hb => by rw [hL_putR, hL_newC, hNp, if_neg (by omega), hL_putI]
  have o3 : ∀ b k, b < hN h → ¬ (b = m ∧ k = 6) → hI (putR (newC (putI h m 6 (iI ((2 * n / 4 * 3 : Nat) : Int))) 48 (2 * n)) m 2 (some (hN h))) b k = hI h b k := fun b k hb q => by rw [hI_putR, hI_newC, hNp, if_neg (by omega), hI_putI, if_neg q]
  have o4 : ∀ b k, b < hN h → hJ (putR (newC (putI h m 6 (iI ((2 * n / 4 * 3 : Nat) : Int))) 48 (2 * n)) m 2 (some (hN h))) b k = hJ h b k := fun b k hb => by rw [hJ_putR, hJ_newC, hNp, if_neg (by omega), hJ_putI]
  have o5 : ∀ b k, b < hN h → ¬ (b = m ∧ k = 2) → hR (putR (newC (putI h m 6 (iI ((2 * n / 4 * 3 : Nat) : Int))) 48 (2 * n)) m 2 (some (hN h))) b k = hR h b k := fun b k hb q => by rw [hR_putR, if_neg q, hR_newC, hNp, if_neg (by omega), hR_putI]
  have o6 : hK (putR (newC (putI h m 6 (iI ((2 * n / 4 * 3 : Nat) : Int))) 48 (2 * n)) m 2 (some (hN h))) (hN h) = 48 := by rw [hK_putR, hK_newC, hNp, if_pos rfl]
  have o7 : hL (putR (newC (putI h m 6 (iI ((2 * n / 4 * 3 : Nat) : Int))) 48 (2 * n)) m 2 (some (hN h))) (hN h) = 2 * n := by rw [hL_putR, hL_newC, hNp, if_pos rfl]
  have o8 : ∀ k, hR (putR (newC (putI h m 6 (iI ((2 * n / 4 * 3 : Nat) : Int))) 48 (2 * n)) m 2 (some (hN h))) (hN h) k = none := fun k => by rw [hR_putR, if_neg (fun w => by have := w.1; omega), hR_newC, hNp, if_pos rfl]
  have o9 : hR (putR (newC (putI h m 6 (iI ((2 * n / 4 * 3 : Nat) : Int))) 48 (2 * n)) m 2 (some (hN h))) m 2 = some (hN h) := by rw [hR_putR, if_pos ⟨rfl, rfl⟩]
  have o10 : hI (putR (newC (putI h m 6 (iI ((2 * n / 4 * 3 : Nat) : Int))) 48 (2 * n)) m 2 (some (hN h))) m 6 = iI ((2 * n / 4 * 3 : Nat) : Int) := by rw [hI_putR, hI_newC, hNp, if_neg (by omega), hI_putI, if_pos ⟨rfl, rfl⟩]
  have o11 : hN (putR (newC (putI h m 6 (iI ((2 * n / 4 * 3 : Nat) : Int))) 48 (2 * n)) m 2 (some (hN h))) = hN h + 1 := rfl
  have o12 : hS (putR (newC (putI h m 6 (iI ((2 * n / 4 * 3 : Nat) : Int))) 48 (2 * n)) m 2 (some (hN h))) = hS h + 2 * n := rfl
  have o13 : ∀ k, hE (putR (newC (putI h m 6 (iI ((2 * n / 4 * 3 : Nat) : Int))) 48 (2 * n)) m 2 (some (hN h))) k = hE h k := fun _ => rfl
  rw [hNp]
  generalize putR (newC (putI h m 6 (iI ((2 * n / 4 * 3 : Nat) : Int))) 48 (2 * n)) m 2 (some (hN h)) = q2 at *
  have ltn : ∀ x, x ∈ NS → x < hN h := fun x hx => (s2 x hx).2.1
  have nm : ∀ x, x ∈ NS → x ≠ m := fun x hx e => by have := x12 x hx; rw [e, km] at this; omega
  have tm : t ≠ m := fun e => by rw [e, km] at u1; omega
  have hash : ∀ x, x ∈ NS → hI q2 x 0 = hI h x 0 := fun x hx => o3 x 0 (ltn x hx) (fun w => nm x hx w.1)
  refine rs_bins (h2 := q2) (t1 := t) (t2 := hN h) (NS := NS) (n := n) hn (by rw [o1 t u3]; exact u1) (by rw [o2 t u3]; exact u4) o6 o7 (by omega) (fun x hx => by rw [o1 x (ltn x hx)]; exact x12 x hx) (fun i hi => ?_) (fun g1 l7 l8 l9 l10 l11 l12 l13 R => ?_) n 0 q2 (by omega) ?_ _ _ _ _ _ _
  · rcases u5 i hi with ⟨xs, ch, nd, k12, mem⟩ | ⟨z, _⟩
    · rw [o5 t i u3 (fun w => tm w.1)]
      refine ⟨xs, chn_l (fun x hx => o5 x 3 (ltn x ((mem x).mp hx).1) (fun w => absurd w.2 (by decide))) ch, nd, fun x hx => by rw [o1 x (ltn x ((mem x).mp hx).1)]; exact k12 x hx, fun x => ?_⟩
      constructor
      · intro w
        have := (mem x).mp w
        exact ⟨this.1, by rw [hash x this.1]; exact this.2⟩
      · rintro ⟨w1, w2⟩
        rw [hash x w1] at w2
        exact (mem x).mpr ⟨w1, w2⟩
    · omega
  · rw [sJ7_resize_353, sJ7_resize_355]
    obtain ⟨r1, r2, r3, r4, r5, r6, r7, r8⟩ := R
    have kg1 : ∀ y, hK g1 y = hK q2 y := fun y => by unfold hK; rw [r1, r2]
    have lg1 : ∀ y, hL g1 y = hL q2 y := fun y => by unfold hL; rw [r2]
    have ng1 : hN g1 = hN h + 1 := by rw [← o11]; unfold hN; rw [r1]
    have f1 : ∀ x, x ∈ NS → x ≠ t ∧ x ≠ hN h := fun x hx => ⟨fun e => by have := x12 x hx; rw [e, u1] at this; omega, fun e => by have := ltn x hx; omega⟩
    have key : ∀ x, x ∈ NS → hK g1 x = hK h x ∧ hI g1 x 0 = hI h x 0 ∧ hR g1 x 1 = hR h x 1 ∧ hR g1 x 2 = hR h x 2 := fun x hx => by
      refine ⟨by rw [kg1, o1 x (ltn x hx)], by rw [r3, hash x hx], ?_, ?_⟩
      · rw [r5 x 1 (f1 x hx).1 (f1 x hx).2 (fun w => absurd w.2 (by decide)), o5 x 1 (ltn x hx) (fun w => nm x hx w.1)]
      · rw [r5 x 2 (f1 x hx).1 (f1 x hx).2 (fun w => absurd w.2 (by decide)), o5 x 2 (ltn x hx) (fun w => nm x hx w.1)]
    refine post g1 ⟨by omega, fun k => ?_, fun b hb => ⟨gN_ne (by omega), by rw [kg1, o1 b hb], by rw [lg1, o2 b hb], fun q k => ?_⟩⟩ ⟨s1, fun x hx => ?_, fun x y hx hy e => ?_, fun s z e => ?_, ?_, by omega, ?_, ?_⟩ ng1 ?_ (fun k hk => ?_)
    · rw [← o13 k]; unfold hE; rw [r1]
    · have bm : b ≠ m := fun e => q (by rw [e]; exact gm)
      have bt : b ≠ t := fun e => q (by rw [e]; exact u2)
      have bN : b ∉ NS := fun e => q (s2 b e).1
      refine ⟨by rw [r3, o3 b k hb (fun w => bm w.1)], by rw [r4, o4 b k hb], ?_⟩
      rw [r5 b k bt (by omega) (fun w => bN w.1), o5 b k hb (fun w => bm w.1)]
    · exact isNd_k (s2 x hx) (gN_ne (f1 x hx).2) (by omega) (key x hx).1 (key x hx).2.1 (key x hx).2.2.1 (key x hx).2.2.2
    · rw [ndT_k (key x hx).2.2.1, ndT_k (key y hy).2.2.1] at e
      exact s3 x y hx hy e
    · obtain ⟨x, x1, x2⟩ := s4 s z e
      exact ⟨x, x1, by rw [ndT_k (key x x1).2.2.1]; exact x2⟩
    · rw [r5 m 2 (Ne.symm tm) (by omega) (fun w => nm m w.1 rfl)]
      exact o9
    · rw [r3]; exact o10
    · refine ⟨by rw [kg1]; exact o6, gN_eq, by omega, by rw [lg1]; exact o7, fun i hi => Or.inl ?_⟩
      have := (r8 i hi).1 (Nat.mod_lt _ (by omega))
      exact this
    · rw [← o12]; unfold hS; rw [r1]
    · rw [r3]; exact o3 m k lm (fun w => hk w.2)
  · refine ⟨rfl, rfl, fun _ _ => rfl, fun _ _ => rfl, fun _ _ _ _ _ => rfl, fun _ _ _ => rfl, fun _ _ => rfl, fun i hi => ⟨fun q => by omega, fun _ => o8 i⟩⟩
end RZL
