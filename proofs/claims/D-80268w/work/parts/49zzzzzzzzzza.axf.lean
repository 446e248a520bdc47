/-! COMPONENT, 140: feed (3), put (31) *-/
section AXF
variable {x rd tp wr wk r : Nat} {C R : Nat → Nat} {A : Nat → Int → Nat} {T : Nat → Nat} {p0 w t b : Int} {g : Int → Int} {v v' : vT} {h : am_H} {S F U : tSt} {Q : am_O → am_H → Prop}
theorem and255 (y : Int32) : (y &&& iI 255).toInt = y.toInt % 256 := by
  have e : (y &&& iI 255).toInt = (y.toBitVec &&& 255#32).toInt := rfl
  have n : (y.toBitVec &&& 255#32).toNat ≤ 255 := by rw [BitVec.toNat_and]; exact Nat.and_le_right
  have n2 : (y.toBitVec &&& 255#32).toNat = y.toBitVec.toNat % 256 := by
    rw [BitVec.toNat_and]
    exact Nat.and_two_pow_sub_one_eq_mod _ 8
  rw [e, BitVec.toInt_eq_toNat_of_lt (by omega), n2]
  have e2 : y.toInt = y.toBitVec.toInt := rfl
  rw [e2, BitVec.toInt_eq_toNat_cond]
  have := y.toBitVec.isLt
  split <;> omega
theorem b8 (y : Int32) : y.toInt8.toInt32 = iI (sB (y &&& iI 255).toInt) := by
  apply Int32.toInt_inj.mp
  have h0 : 0 ≤ y.toInt % 256 ∧ y.toInt % 256 < 256 := by omega
  have hb : -128 ≤ sB (y.toInt % 256) ∧ sB (y.toInt % 256) < 128 := by
    unfold sB
    split <;> omega
  rw [and255, iI_toInt (by omega) (by omega), Int8.toInt_toInt32, Int32.toInt_toInt8]
  unfold sB Int.bmod
  simp only
  split <;> split <;> omega
theorem am_fit8 (y : Int32) : am_fit 5 y.toInt8.toInt32 = true := by
  show decide ((y.toInt8.toInt32).toInt8.toInt32 = y.toInt8.toInt32) = true
  rw [Int8.toInt8_toInt32]
  exact decide_eq_true rfl
/-- one byte more -/
theorem AX_b (ax : AX v x rd tp wr wk C R A T p0 g w (up F 1 0 t) U) (ht : 0 ≤ t ∧ t < 2000) (hb : 0 ≤ b ∧ b ≤ 255) : AX (vpI v tp t.toNat (iI (sB b))) x rd tp wr wk C R A T p0 g w (up (up F 0 t b) 1 0 t) U := by
  obtain ⟨⟨kx, r0, i1, r2, r3, r4⟩, ⟨kw, i4⟩, ⟨rw0, ⟨kt, lt, htp⟩, gg, kC, ds, cs⟩, ju, jp, tC, ⟨m1, m3⟩, sl⟩ := ax
  have f : Fw (fun a k => a = tp ∧ k = t.toNat) v (vpI v tp t.toNat (iI (sB b))) := Fw.refl.pI (Or.inr ⟨rfl, rfl⟩)
  have rf : ∀ {a n : Nat} (_ : hK v.1 a = n), n ≠ 0 → n ≠ 44 → ∀ k, hI (vpI v tp t.toNat (iI (sB b))).1 a k = hI v.1 a k ∧ hR (vpI v tp t.toNat (iI (sB b))).1 a k = hR v.1 a k := fun {a n} e h0 h1 k => by
    have := f.ff (k := k) (hK_lt e h0) (fun y => by rw [y.1, kt] at e; omega)
    exact ⟨this.1, this.2.2⟩
  have e0 : ∀ f', f' ≠ 0 → up (up F 0 t b) 1 0 t f' = up F 1 0 t f' := fun f' hf => by
    funext j
    unfold up
    by_cases q : f' = 1
    · simp [q]
    · simp [q, hf]
  have eA : up (up F 0 t b) 1 0 t 0 = up F 0 t b 0 := up_n (by decide)
  have eB : up F 1 0 t 0 = F 0 := up_n (by decide)
  rw [eB] at htp
  refine ⟨⟨kx, r0, ?_, r2, r3, r4⟩, ⟨kw, ?_⟩, ⟨rw0, ⟨kt, lt, fun p h0 h1 => ?_⟩, gg, kC, ds, cs⟩, ?_, ?_, tC, ?_, ?_⟩
  · rw [(rf kx (by decide) (by decide) 1).1, e0 1 (by decide)]; exact i1
  · rw [(rf kw (by decide) (by decide) 4).1, e0 65 (by decide)]; exact i4
  · rw [vpI_1, hI_putI, eA]
    unfold up
    by_cases q : p = t
    · rw [if_pos ⟨rfl, by rw [q]⟩, if_pos ⟨rfl, q⟩]
    · rw [if_neg (fun z => q (by have := z.2; omega)), if_neg (fun z => q z.2)]
      exact htp p h0 h1
  · rw [e0 58 (by decide), e0 59 (by decide)]
    exact JU_fr ju f (fun a k y _ => Or.inr (Or.inr (Or.inl (by rw [y.1, kt]; decide))))
  · rw [e0 58 (by decide), e0 59 (by decide)]; exact jp
  · rw [e0 58 (by decide), e0 59 (by decide), e0 60 (by decide), e0 61 (by decide), e0 62 (by decide), e0 63 (by decide)]; exact ⟨m1, m3⟩
  · obtain ⟨s0, s1, s3, s4, qa⟩ := sl
    rw [eB] at s0
    refine ⟨fun j => ?_, by rw [e0 1 (by decide)]; exact s1, by rw [e0 53 (by decide)]; exact s3, by rw [e0 54 (by decide)]; exact s4, fun j => by rw [e0 58 (by decide), e0 59 (by decide)]; exact qa j⟩
    rw [eA]
    unfold up
    split
    · exact hb
    · exact s0 j
def byt (y : Int32) (j : Int) : Int := ((y >>> (iI (24 - 8 * j) &&& iI 31)) &&& iI 255).toInt
theorem byt_r (y : Int32) (j : Int) : 0 ≤ byt y j ∧ byt y j ≤ 255 := by
  unfold byt
  rw [and255]
  omega
theorem nclamp {n : Int} (h0 : 0 ≤ n) (h1 : n < 2147483648) : (iI n).toNatClampNeg = n.toNat := by
  show (iI n).toInt.toNat = n.toNat
  rw [iI_toInt (by omega) h1]
/-- one round of put -/
theorem put_1 (c : CR h v) (ax : AX v x rd tp wr wk C R A T p0 g w (up F 1 0 t) U) (ht : 0 ≤ t ∧ t < 2000) {y : Int32} {j : Int} (hj : 0 ≤ j ∧ j ≤ 3) (q : ∀ h' v', CR h' v' → AX v' x rd tp wr wk C R A T p0 g w (up (up F 0 t (byt y j)) 1 0 (t + 1)) U → hN v'.1 = hN v.1 → hS v'.1 = hS v.1 → KT v v' → Rn r 31 3 [some (vR (some x)), some (vI y), some (vI (iI (24 - 8 * (j + 1))))] [] h' Q) : Rn r 31 3 [some (vR (some x)), some (vI y), some (vI (iI (24 - 8 * j)))] [] h Q := by
  have kx := ax.1.1
  have r0 := ax.1.2.1
  have i1 := ax.1.2.2.1
  rw [up_s] at i1
  have kt := ax.2.2.1.2.1.1
  have lt := ax.2.2.1.2.1.2.1
  have kxh := c.kk kx (by decide)
  have kth := c.kk kt (by decide)
  have br := byt_r y j
  have ax2 := AX_b (b := byt y j) ax ht br
  have lth : hL h tp = 2000 := by rw [c.hl kt (by decide) (wk_all (c := 44) rfl).2.1]; exact lt
  have es : (y >>> (iI (24 - 8 * j) &&& 31)).toInt8.toInt32 = iI (sB (byt y j)) := b8 _
  have c2 := CR_pI (k := t.toNat) (x := iI (sB (byt y j))) c kt rfl
  have kx2 : hK (vpI v tp t.toNat (iI (sB (byt y j)))).1 x = 1 := kx
  have i12 := ax2.1.2.2.1
  rw [up_s] at i12
  rw [sX0_put_3, sX0_put_4, if_neg (by rw [show (0 : Int32) = iI 0 from rfl, iI_lt (by omega) (by omega) (by omega) (by omega)]; omega), sX0_put_7, sX0_put_8 kxh, c.rr kx rfl, r0, sX0_put_11, sX0_put_12 kxh, c.ii kx rfl, i1, sX0_put_15, sX0_put_16, sX0_put_17, sX0_put_18, sX0_put_19 kth (am_fit8 _) (by rw [lth]; exact iI_bd ht.1 (by omega) (by omega)), nclamp ht.1 (by omega), es]
  have kx2h := c2.kk kx2 (by decide)
  rw [sX0_put_20, sX0_put_21, sX0_put_22 kx2h, c2.ii kx2 rfl, i12, sX0_put_25, sX0_put_26, show (1 : Int32) = iI 1 from rfl, iI_add, sX0_put_27 kx2h, sX0_put_30, show (-8 : Int32) = iI (-8) from rfl, iI_add, sX0_put_33, show 24 - 8 * j + -8 = 24 - 8 * (j + 1) by omega]
  have c3 := CR_pI (k := 1) (x := iI (t + 1)) c2 kx2 rfl
  have ax3 := AX_t (t := t + 1) ax2 ⟨by omega, by omega⟩
  have eU : up (up (up F 0 t (byt y j)) 1 0 t) 1 0 (t + 1) = up (up F 0 t (byt y j)) 1 0 (t + 1) := by
    funext f' j'
    unfold up
    by_cases q : f' = 1 ∧ j' = 0
    · rw [if_pos q, if_pos q]
    · rw [if_neg q, if_neg q, if_neg q]
  rw [eU] at ax3
  exact q _ _ c3 ax3 rfl rfl ((KT_pI kt (by decide)).tr (KT_pI kx2 (by decide)))
def put4 (F : tSt) (t : Int) (y : Int32) : tSt := up (up (up (up F 0 t (byt y 0)) 0 (t + 1) (byt y 1)) 0 (t + 2) (byt y 2)) 0 (t + 3) (byt y 3)
theorem c_put (c : CR h v) (ax : AX v x rd tp wr wk C R A T p0 g w (up F 1 0 t) U) (ht : 0 ≤ t ∧ t + 4 ≤ 2000) {y : Int32} (q : ∀ h' v', CR h' v' → AX v' x rd tp wr wk C R A T p0 g w (up (put4 F t y) 1 0 (t + 4)) U → hN v'.1 = hN v.1 → hS v'.1 = hS v.1 → KT v v' → Q (Sum.inl none) h') : Cl r 31 [vR (some x), vI y] h Q := by
  rw [eX0_put, sX0_put_0, sX0_put_2, show (24 : Int32) = iI (24 - 8 * 0) from rfl]
  refine put_1 (j := 0) c ax (by omega) (by decide) (fun h1 v1 c1 ax1 n1 s1 t1 => ?_)
  refine put_1 (j := 1) c1 ax1 (by omega) (by decide) (fun h2 v2 c2 ax2 n2 s2 t2 => ?_)
  rw [show t + 1 + 1 = t + 2 by omega] at ax2
  refine put_1 (j := 2) c2 ax2 (by omega) (by decide) (fun h3 v3 c3 ax3 n3 s3 t3 => ?_)
  rw [show t + 2 + 1 = t + 3 by omega] at ax3
  refine put_1 (j := 3) c3 ax3 (by omega) (by decide) (fun h4 v4 c4 ax4 n4 s4 t4 => ?_)
  rw [show t + 3 + 1 = t + 4 by omega] at ax4
  rw [sX0_put_3, sX0_put_4, if_pos (by decide), sX0_put_36]
  exact q h4 v4 c4 ax4 (by omega) (by omega) (((t1.tr t2).tr t3).tr t4)
theorem fB_e {y : Int32} {k : Nat} (i j : Nat) (hk : k = 4 * i + j) (hi : i < 5) (hj : j < 4) : fB y k = byt y j := by
  unfold fB byt
  have e : (iI 24 - iI 8 * (iI k - iI k / iI 4 * iI 4)) = iI (24 - 8 * (j : Int)) := by
    subst hk
    have : (i = 0 ∨ i = 1 ∨ i = 2 ∨ i = 3 ∨ i = 4) ∧ (j = 0 ∨ j = 1 ∨ j = 2 ∨ j = 3) := by omega
    obtain ⟨h1, h2⟩ := this
    rcases h1 with rfl | rfl | rfl | rfl | rfl <;> rcases h2 with rfl | rfl | rfl | rfl <;> decide
  rw [e]
theorem tFd4 {a1 b1 c1 d1 e1 y : Int32} (i : Nat) (hi : i < 5) (hy : ∀ j : Nat, j < 4 → fV a1 b1 c1 d1 e1 ((4 * i + j : Nat) : Int) = y) : put4 (tFdS a1 b1 c1 d1 e1 S (4 * i)) (S 1 0 + ((4 * i : Nat) : Int)) y = tFdS a1 b1 c1 d1 e1 S (4 * i + 4) := by
  show _ = up (up (up (up (tFdS a1 b1 c1 d1 e1 S (4 * i)) 0 (S 1 0 + ((4 * i : Nat) : Int)) (fB (fV a1 b1 c1 d1 e1 ((4 * i : Nat) : Int)) ((4 * i : Nat) : Int))) 0 (S 1 0 + ((4 * i + 1 : Nat) : Int)) (fB (fV a1 b1 c1 d1 e1 ((4 * i + 1 : Nat) : Int)) ((4 * i + 1 : Nat) : Int))) 0 (S 1 0 + ((4 * i + 2 : Nat) : Int)) (fB (fV a1 b1 c1 d1 e1 ((4 * i + 2 : Nat) : Int)) ((4 * i + 2 : Nat) : Int))) 0 (S 1 0 + ((4 * i + 3 : Nat) : Int)) (fB (fV a1 b1 c1 d1 e1 ((4 * i + 3 : Nat) : Int)) ((4 * i + 3 : Nat) : Int))
  have h0 := hy 0 (by omega)
  have h1 := hy 1 (by omega)
  have h2 := hy 2 (by omega)
  have h3 := hy 3 (by omega)
  rw [Nat.add_zero] at h0
  rw [h0, h1, h2, h3, fB_e (k := 4 * i) i 0 (by omega) hi (by omega), fB_e (k := 4 * i + 1) i 1 (by omega) hi (by omega), fB_e (k := 4 * i + 2) i 2 (by omega) hi (by omega), fB_e (k := 4 * i + 3) i 3 (by omega) hi (by omega)]
  unfold put4
  rw [show S 1 0 + ((4 * i : Nat) : Int) + 1 = S 1 0 + ((4 * i + 1 : Nat) : Int) by omega, show S 1 0 + ((4 * i : Nat) : Int) + 2 = S 1 0 + ((4 * i + 2 : Nat) : Int) by omega, show S 1 0 + ((4 * i : Nat) : Int) + 3 = S 1 0 + ((4 * i + 3 : Nat) : Int) by omega]
  rfl
theorem ax_feed {a1 b1 c1 d1 e1 : Int32} (c : CR h v) (ax : AX v x rd tp wr wk C R A T p0 g w S U) (q1 : 1980 < S 1 0 → Q (Sum.inl (some (vI (iI (-3))))) h) (q2 : ¬ 1980 < S 1 0 → ∀ h' v', CR h' v' → AX v' x rd tp wr wk C R A T p0 g w (up (tFdS a1 b1 c1 d1 e1 S 20) 1 0 (S 1 0 + 20)) U → hN v'.1 = hN v.1 → hS v'.1 = hS v.1 → KT v v' → Q (Sum.inl (some (vI (iI (S 1 0 + 20))))) h') : Cl r 3 [vR (some x), vI a1, vI b1, vI c1, vI d1, vI e1] h Q := by
  have sl1 := ax.2.2.2.2.2.2.2.2.1
  have kx := ax.1.1
  have i1 := ax.1.2.2.1
  have kxh := c.kk kx (by decide)
  rw [eX0_feed, sX0_feed_0, sX0_feed_1 kxh, c.ii kx rfl, i1, sX0_feed_4, sX0_feed_6, show (20 : Int32) = iI 20 from rfl, iI_add, sX0_feed_7, sX0_feed_10, show (2000 : Int32) = iI 2000 from rfl]
  by_cases z : 1980 < S 1 0
  · rw [if_neg (by rw [iI_le (by omega) (by omega) (by omega) (by omega)]; omega), sX0_feed_13, sX0_feed_15]
    exact q1 z
  · rw [if_pos (by rw [iI_le (by omega) (by omega) (by omega) (by omega)]; omega), sX0_feed_16, sX0_feed_17, sX0_feed_18 kxh]
    have e0 : up S 1 0 (S 1 0) = S := by
      funext f j
      unfold up
      by_cases t : f = 1 ∧ j = 0
      · rw [if_pos t, t.1, t.2]
      · rw [if_neg t]
    have ax0 : AX v x rd tp wr wk C R A T p0 g w (up (tFdS a1 b1 c1 d1 e1 S (4 * 0)) 1 0 (S 1 0 + ((4 * 0 : Nat) : Int))) U := by
      show AX v x rd tp wr wk C R A T p0 g w (up S 1 0 (S 1 0 + 0)) U
      rw [Int.add_zero, e0]
      exact ax
    refine c_put c ax0 (by omega) (fun h1 v1 k1 ax1 n1 s1 t1 => ?_)
    rw [tFd4 0 (by omega) (fun j hj => by unfold fV; rw [if_pos (by omega)]), show S 1 0 + ((4 * 0 : Nat) : Int) + 4 = S 1 0 + ((4 * 1 : Nat) : Int) by omega] at ax1
    rw [Kt_0, sX0_feed_21, sX0_feed_22, sX0_feed_23 (k1.kk ax1.1.1 (by decide))]
    refine c_put k1 ax1 (by omega) (fun h2 v2 k2 ax2 n2 s2 t2 => ?_)
    rw [tFd4 1 (by omega) (fun j hj => by unfold fV; rw [if_neg (by omega), if_pos (by omega)]), show S 1 0 + ((4 * 1 : Nat) : Int) + 4 = S 1 0 + ((4 * 2 : Nat) : Int) by omega] at ax2
    rw [Kt_0, sX0_feed_26, sX0_feed_27, sX0_feed_28 (k2.kk ax2.1.1 (by decide))]
    refine c_put k2 ax2 (by omega) (fun h3 v3 k3 ax3 n3 s3 t3 => ?_)
    rw [tFd4 2 (by omega) (fun j hj => by unfold fV; rw [if_neg (by omega), if_neg (by omega), if_pos (by omega)]), show S 1 0 + ((4 * 2 : Nat) : Int) + 4 = S 1 0 + ((4 * 3 : Nat) : Int) by omega] at ax3
    rw [Kt_0, sX0_feed_31, sX0_feed_32, sX0_feed_34 (k3.kk ax3.1.1 (by decide))]
    refine c_put k3 ax3 (by omega) (fun h4 v4 k4 ax4 n4 s4 t4 => ?_)
    rw [tFd4 3 (by omega) (fun j hj => by unfold fV; rw [if_neg (by omega), if_neg (by omega), if_neg (by omega), if_pos (by omega)]), show S 1 0 + ((4 * 3 : Nat) : Int) + 4 = S 1 0 + ((4 * 4 : Nat) : Int) by omega] at ax4
    rw [Kt_0, sX0_feed_37, sX0_feed_38, sX0_feed_40 (k4.kk ax4.1.1 (by decide))]
    refine c_put k4 ax4 (by omega) (fun h5 v5 k5 ax5 n5 s5 t5 => ?_)
    rw [tFd4 4 (by omega) (fun j hj => by unfold fV; rw [if_neg (by omega), if_neg (by omega), if_neg (by omega), if_neg (by omega)]), show S 1 0 + ((4 * 4 : Nat) : Int) + 4 = S 1 0 + 20 by omega] at ax5
    have i5 := ax5.1.2.2.1
    rw [up_s] at i5
    rw [Kt_0, sX0_feed_43, sX0_feed_44 (k5.kk ax5.1.1 (by decide)), k5.ii ax5.1.1 rfl, i5, sX0_feed_47]
    exact q2 z h5 v5 k5 ax5 (by omega) (by omega) ((((t1.tr t2).tr t3).tr t4).tr t5)
end AXF
