/-! COMPONENT, 132: Reader.read, pc 55-70: the new unit, the first token *-/
/-- addresses of a reader and of the unit u that it makes -/
def RR (rd tp wr u : Nat) (C : Nat → Nat) (i : Nat) : Nat := if i = 0 then rd else if i = 1 then tp else if i = 2 then wr else if i < 10 then u + (i - 3) else C i
def TT (u : Nat) (C : Nat → Nat) (a : Nat) : Nat := if a = u + 1 ∨ a = u + 3 then 6 else if a = u + 5 ∨ a = u + 6 ∨ a = C 10 ∨ a = C 11 ∨ a = C 12 ∨ a = C 13 ∨ a = C 14 then 3 else 0
section RDC
variable {rd tp wr u r : Nat} {h : am_H} {v : vT} {C : Nat → Nat} {w : Int} {S U1 : tSt} {Q : am_O → am_H → Prop} {l1 l2 : Option am_V}
theorem RR_c {i : Nat} (h1 : 10 ≤ i) : RR rd tp wr u C i = C i := by
  unfold RR
  rw [if_neg (by omega), if_neg (by omega), if_neg (by omega), if_neg (by omega)]
theorem rd_b (c : CR h v) (x : RdS v rd tp wr C (S 0)) (r1 : hR v.1 rd 1 = some tp) (i2 : hI v.1 rd 2 = iI (S 1 0)) (i3 : hI v.1 rd 3 = 0) (i9 : hI v.1 rd 9 = 0) (ls : ∀ i, 10 ≤ i → i ≤ 14 → vLs v (C i) = []) (sl : SL S) (w0 : 0 ≤ w ∧ w ≤ 1) (qv : QV U1)
    (q1 : tBgn S w 51 0 ≠ -2 → ∀ h' v' A, CR h' v' → TI (RR rd tp wr (hN v.1) C) A (TT (hN v.1) C) (1 - w) 0 v' (tBgn S w) (tClear (1 - w) U1) → Fw (XR0 rd wr C) v v' → (hN v'.1 : Int) ≤ hN v.1 + 95 + 20 * tBgn S w 47 0 → hS v.1 ≤ hS v'.1 → (hS v'.1 : Int) ≤ hS v.1 + 1640 + 200 * tBgn S w 47 0 → Rn (r + 1) 33 70 [some (vR (some rd)), l1, l2] [] h' Q)
    (q2 : tBgn S w 51 0 = -2 → ∀ h' v', CR h' v' → Fw (XR0 rd wr C) v v' → hI v'.1 wr 6 = iI (tBgn S w 49 0) → hN v'.1 ≤ hN v.1 + 95 → hS v.1 ≤ hS v'.1 → hS v'.1 ≤ hS v.1 + 1640 → Q (Sum.inr wr) h') : Rn (r + 1) 33 55 [some (vR (some rd)), l1, l2] [] h Q := by
  obtain ⟨⟨kr, wr0, kw⟩, ⟨kt, lt, ht⟩, ⟨g10, g11, g12, g13, g17⟩, kC, ds, cs⟩ := x
  have nn := c.hn
  have lr := hK_lt kr (by decide)
  have c1 := CR_nw (m := 5) (n := 6) c rfl
  have f1 : Fw (fun _ _ => False) v (vnw v 5 6) := Fw.refl.nw
  have ku1 : hK (vnw v 5 6).1 (hN v.1) = 5 := nw_k
  have n1 : hN (vnw v 5 6).1 = hN v.1 + 1 := rfl
  have s1 : hS (vnw v 5 6).1 = hS v.1 + 6 := rfl
  rw [sX1_read_55, sX1_read_56, sX1_read_59, sX1_read_60 (by rw [nw_h]; decide) (by rw [nw_h]; decide), nn]
  have cs1 : CS (vnw v 5 6) := CS_fw f1 cs (fun a y => y.elim)
  generalize vnw v 5 6 = v1 at *
  refine c_unit c1 ku1 cs1 (fun h2 v2 K O c2 cs2 f2 un2 hO kK n2 s2 t2 => ?_)
  rw [n1] at un2 kK
  have kr1 := f1.kk kr (by decide)
  have kr2 := f2.kk kr1 (by decide)
  rw [Kt_0, sX1_read_63 (c2.kk kr2 (by decide)), sX1_read_66]
  have c3 := CR_pR (k := 7) (z := some (hN v.1)) c2 kr2 rfl
  have g3 : Fw (fun a k => a = rd ∧ k = 7) v2 (vpR v2 rd 7 (some (hN v.1))) := Fw.refl.pR (Or.inr ⟨rfl, rfl⟩)
  have e7 : hR (vpR v2 rd 7 (some (hN v.1))).1 rd 7 = some (hN v.1) := by rw [vpR_1, hR_putR, if_pos ⟨rfl, rfl⟩]
  have n3 : hN (vpR v2 rd 7 (some (hN v.1))).1 = hN v2.1 := rfl
  have s3 : hS (vpR v2 rd 7 (some (hN v.1))).1 = hS v2.1 := rfl
  generalize (vpR v2 rd 7 (some (hN v.1))) = v3 at *
  generalize (putR h2 rd 7 (some (hN v.1))) = h3 at *
  have f02 : Fw (fun _ _ => False) v v2 := f1.tr2 f2 (fun a k y => Or.inl (by rw [y]; exact Nat.le_refl _))
  have f03 : Fw (fun a k => a = rd ∧ k = 7) v v3 := (f02.mono (fun _ _ y => y.elim)).tr2 g3 (fun a k y => Or.inr y)
  have kr3 := g3.kk kr2 (by decide)
  have rf : ∀ k, k ≠ 7 → hR v3.1 rd k = hR v.1 rd k ∧ hI v3.1 rd k = hI v.1 rd k := fun k hk => by
    have := f03.ff (k := k) lr (fun y => hk y.2)
    exact ⟨this.2.2, this.1⟩
  have kt3 := f03.kk kt (by decide)
  have kw3 := f03.kk kw (by decide)
  have ltp := hK_lt kt (by decide)
  have tne : tp ≠ rd := fun y => by rw [y, kr] at kt; omega
  have wne : wr ≠ rd := fun y => by rw [y, kr] at kw; omega
  have rw3 : RW v3 rd wr := ⟨kr3, by rw [(rf 0 (by decide)).1]; exact wr0, kw3⟩
  have cs3 : CS v3 := CS_fw f03 cs (fun a y => by rw [y.1, kr]; decide)
  have eB0 : (up (up (up (up (up (up S 48 0 (S 1 0)) 1 0 0) 2 0 (1 - w)) 47 0 0) 55 0 0) 52 0 (-1)) 0 = S 0 := by rw [up_n (by decide), up_n (by decide), up_n (by decide), up_n (by decide), up_n (by decide), up_n (by decide)]
  have eB48 : (up (up (up (up (up (up S 48 0 (S 1 0)) 1 0 0) 2 0 (1 - w)) 47 0 0) 55 0 0) 52 0 (-1)) 48 0 = S 1 0 := by simp only [up_eq, true_and, false_and, and_true, and_false, and_self, if_true, if_false, eq_self, Nat.reduceEqDiff, reduceIte]
  have eB47 : (up (up (up (up (up (up S 48 0 (S 1 0)) 1 0 0) 2 0 (1 - w)) 47 0 0) 55 0 0) 52 0 (-1)) 47 0 = 0 := by simp only [up_eq, true_and, false_and, and_true, and_false, and_self, if_true, if_false, eq_self, Nat.reduceEqDiff, reduceIte]
  have eB55 : (up (up (up (up (up (up S 48 0 (S 1 0)) 1 0 0) 2 0 (1 - w)) 47 0 0) 55 0 0) 52 0 (-1)) 55 0 = 0 := by simp only [up_eq, true_and, false_and, and_true, and_false, and_self, if_true, if_false, eq_self, Nat.reduceEqDiff, reduceIte]
  have eB52 : (up (up (up (up (up (up S 48 0 (S 1 0)) 1 0 0) 2 0 (1 - w)) 47 0 0) 55 0 0) 52 0 (-1)) 52 0 = -1 := by simp only [up_eq, true_and, false_and, and_true, and_false, and_self, if_true, if_false, eq_self, Nat.reduceEqDiff, reduceIte]
  have pi := PI_bg2 (U1 := U1) sl w0.1 w0.2
  have g : SG (up (up (up (up (up (up S 48 0 (S 1 0)) 1 0 0) 2 0 (1 - w)) 47 0 0) 55 0 0) 52 0 (-1)) := by
    obtain ⟨s0, s1, _⟩ := sl
    unfold SG
    simp only [up_eq, true_and, false_and, and_true, and_false, and_self, if_true, if_false, eq_self, Nat.reduceEqDiff, reduceIte]
    exact ⟨by omega, by omega, by omega, s0⟩
  have q1' := q1
  have q2' := q2
  unfold tBgn at q1' q2' pi
  have b52 : tAdv (up (up (up (up (up (up S 48 0 (S 1 0)) 1 0 0) 2 0 (1 - w)) 47 0 0) 55 0 0) 52 0 (-1)) 52 0 = -1 := by rw [tAdv_52]; exact eB52
  have b55 : tAdv (up (up (up (up (up (up S 48 0 (S 1 0)) 1 0 0) 2 0 (1 - w)) 47 0 0) 55 0 0) 52 0 (-1)) 55 0 = 0 := by rw [tAdv_55.1]; exact eB55
  generalize (up (up (up (up (up (up S 48 0 (S 1 0)) 1 0 0) 2 0 (1 - w)) 47 0 0) 55 0 0) 52 0 (-1)) = B at *
  have trr : TRr v3 rd tp (B 0) (B 48 0) := by
    refine ⟨kr3, kt3, ?_, by rw [(rf 1 (by decide)).1]; exact r1, by rw [(rf 2 (by decide)).2, eB48]; exact i2, fun p h0 h1 => ?_⟩
    · rw [(f03.2.2 tp ltp).2.1]; exact lt
    · rw [(f03.ff ltp (fun y => tne y.1)).1, eB0]; exact ht p h0 h1
  rw [sX1_read_67 (c3.kk kr3 (by decide))]
  have m3 : ∀ a k, (a = rd ∧ k = 7) → XR0 rd wr C a k := fun a k y => Or.inl ⟨y.1, by omega, by omega, by omega⟩
  have hn0 := f2.1
  refine c_next c3 trr (by rw [(rf 3 (by decide)).2, eB47]; exact i3) g cs3 rw3 (fun z h4 v4 c4 f4 tr4 b1 b2 b3 => ?_) (fun z h4 v4 c4 f4 e6 b1 b2 => ?_)
  · rw [Kt_0]
    rw [eB47] at b1 b3
    have p49 := pi.1.2.1
    have p47 := pi.2.1.1
    have F4 : Fw (XR0 rd wr C) v v4 := (f03.mono m3).tr2 f4 (fun a k y => Or.inr (Or.inl ⟨y.1, by have := y.2; omega, by have := y.2; omega, by have := y.2; omega⟩))
    refine q1' z h4 v4 (fun f i => if f = 0 then K i.toNat else 0) c4 ?_ F4 (by omega) (by omega) (by omega)
    have F34 : Fw (fun a k => a = rd ∧ 3 ≤ k ∧ k ≤ 6) v3 v4 := f4
    have G24 : Fw (fun a _ => a = rd) v2 v4 := (g3.mono (fun _ _ y => y.1)).trans (F34.mono (fun _ _ y => y.1))
    have kr4 := f4.kk kr3 (by decide)
    have lr3 := hK_lt kr3 (by decide)
    have kC4 : ∀ i, 10 ≤ i → i ≤ 14 → hK v4.1 (C i) = 4 := fun i h1 h2 => F4.kk (kC i h1 h2) (by decide)
    have rF : ∀ k, k < 3 ∨ 6 < k → hR v4.1 rd k = hR v3.1 rd k ∧ hI v4.1 rd k = hI v3.1 rd k := fun k hk => by
      have := F34.ff (k := k) lr3 (fun y => by omega)
      exact ⟨this.2.2, this.1⟩
    have pt : PT v4 rd tp wr (tAdv B) := ⟨tr4, pi.1, pi.2.1, CS_fw f4 cs3 (fun a y => by rw [y.1, kr3]; decide), kr4, by rw [(rF 0 (by decide)).1]; exact rw3.2.1, f4.kk kw3 (by decide)⟩
    have lr2 := hK_lt kr2 (by decide)
    have rne : ∀ a, hK v2.1 a ≠ 2 → a ≠ rd := fun a ha y => ha (by rw [y]; exact kr2)
    have un4 : UNi v4 (hN v.1) (hN v.1 + 1) K O 4 := by
      obtain ⟨⟨⟨a0, a1, a2, a3, a4, a5, a6⟩, j0, j1, j2, j3, j4, j5⟩, l0, m1, m2, kk, ⟨z2, z4, z5, zp⟩, z3⟩ := un2
      have u' : ∀ {a n : Nat}, hK v2.1 a = n → n ≠ 0 → n ≠ 2 → hK v4.1 a = n ∧ (∀ k, hR v4.1 a k = hR v2.1 a k ∧ hI v4.1 a k = hI v2.1 a k) ∧ (vLs v4 a = vLs v2 a ∧ vMp v4 a = vMp v2 a ∧ vCp v4 a = vCp v2 a) := fun {a n} ka n0 n2 => by
        have la := hK_lt ka n0
        have ne : a ≠ rd := rne a (by omega)
        refine ⟨G24.kk ka n0, fun k => ?_, ?_⟩
        · have := G24.ff (k := k) la ne
          exact ⟨this.2.2, this.1⟩
        · have := G24.cc la ne
          exact ⟨this.1, this.2.1, this.2.2.1⟩
      have uu := u' a0 (by decide) (by decide)
      have w0' := u' j0 (by decide) (by decide)
      have w1' := u' j1 (by decide) (by decide)
      have w2' := u' j2 (by decide) (by decide)
      have w3' := u' j3 (by decide) (by decide)
      have w4' := u' j4 (by decide) (by decide)
      have w5' := u' j5 (by decide) (by decide)
      refine ⟨⟨⟨uu.1, by rw [(uu.2.1 0).1]; exact a1, by rw [(uu.2.1 1).1]; exact a2, by rw [(uu.2.1 2).1]; exact a3, by rw [(uu.2.1 3).1]; exact a4, by rw [(uu.2.1 4).1]; exact a5, by rw [(uu.2.1 5).1]; exact a6⟩, w0'.1, w1'.1, w2'.1, w3'.1, w4'.1, w5'.1⟩, by rw [w0'.2.2.1]; exact l0, fun i hi => by rw [w1'.2.2.2.1]; exact m1 i hi, fun t ht => by rw [w1'.2.2.2.1]; exact m2 t ht, fun i hi => ?_, ⟨by rw [w2'.2.2.1]; exact z2, by rw [w4'.2.2.1]; exact z4, by rw [w5'.2.2.1]; exact z5, by rw [w5'.2.2.2.2]; exact zp⟩, fun t => by rw [w3'.2.2.2.1]; exact z3 t⟩
      obtain ⟨y1, y2, y3, y4⟩ := kk i hi
      have yy := u' y1 (by decide) (by decide)
      exact ⟨yy.1, by rw [(yy.2.1 1).2]; exact y2, by rw [(yy.2.1 2).1]; exact y3, by rw [(yy.2.1 3).2]; exact y4⟩
    have R0 : RR rd tp wr (hN v.1) C 0 = rd := rfl
    have R1 : RR rd tp wr (hN v.1) C 1 = tp := rfl
    have R2 : RR rd tp wr (hN v.1) C 2 = wr := rfl
    have R3 : RR rd tp wr (hN v.1) C 3 = hN v.1 := rfl
    have lC : ∀ i, 10 ≤ i → i ≤ 14 → C i < hN v.1 := fun i h1 h2 => hK_lt (kC i h1 h2) (by decide)
    have l10 := lC 10 (by omega) (by omega)
    have l11 := lC 11 (by omega) (by omega)
    have l12 := lC 12 (by omega) (by omega)
    have l13 := lC 13 (by omega) (by omega)
    have l14 := lC 14 (by omega) (by omega)
    have T3 : ∀ i, 10 ≤ i → i ≤ 14 → TT (hN v.1) C (C i) = 3 := fun i h1 h2 => by
      have := lC i h1 h2
      have hi : i = 10 ∨ i = 11 ∨ i = 12 ∨ i = 13 ∨ i = 14 := by omega
      unfold TT
      rw [if_neg (by omega)]
      rcases hi with rfl | rfl | rfl | rfl | rfl
      · rw [if_pos (Or.inr (Or.inr (Or.inl rfl)))]
      · rw [if_pos (Or.inr (Or.inr (Or.inr (Or.inl rfl))))]
      · rw [if_pos (Or.inr (Or.inr (Or.inr (Or.inr (Or.inl rfl)))))]
      · rw [if_pos (Or.inr (Or.inr (Or.inr (Or.inr (Or.inr (Or.inl rfl))))))]
      · rw [if_pos (Or.inr (Or.inr (Or.inr (Or.inr (Or.inr (Or.inr rfl))))))]
    have tgs : ∀ a, TT (hN v.1) C a ≠ 0 → hK v4.1 a = 4 := fun a ha => by
      unfold TT at ha
      obtain ⟨⟨_, j0, j1, j2, j3, j4, j5⟩, _⟩ := un4
      by_cases y : a = hN v.1 + 1 ∨ a = hN v.1 + 3
      · rcases y with y | y
        · rw [y]; exact j0
        · rw [y]; exact j2
      · rw [if_neg y] at ha
        by_cases y2 : a = hN v.1 + 5 ∨ a = hN v.1 + 6 ∨ a = C 10 ∨ a = C 11 ∨ a = C 12 ∨ a = C 13 ∨ a = C 14
        · rcases y2 with e | e | e | e | e | e | e
          · rw [e]; exact j4
          · rw [e]; exact j5
          · rw [e]; exact kC4 10 (by omega) (by omega)
          · rw [e]; exact kC4 11 (by omega) (by omega)
          · rw [e]; exact kC4 12 (by omega) (by omega)
          · rw [e]; exact kC4 13 (by omega) (by omega)
          · rw [e]; exact kC4 14 (by omega) (by omega)
        · rw [if_neg y2] at ha; exact (ha rfl).elim
    have tg : TG v4 (TT (hN v.1) C) ∧ TZ v4 (TT (hN v.1) C) := by
      refine ⟨fun a _ h4 _ => Classical.byContradiction fun y => h4 (tgs a y), fun a ha => Classical.byContradiction fun y => ?_⟩
      have := hK_lt (tgs a y) (by decide)
      omega
    have cl : CLR (1 - w) (tClear (1 - w) U1) := CLR_clear
    have px : PX (1 - w) (tAdv B) (tClear (1 - w) U1) := by
      refine ⟨⟨pi, PR_clear, QV_clear qv, by omega, by omega⟩, ⟨⟨fun s hs => ?_, fun m m0 m1 => ?_⟩, PK_clear⟩, ⟨b52, p47⟩, fun k k0 k1 => ?_⟩
      · have := hs.1
        have := hs.2
        rw [cl.1.2.2.1] at this
        omega
      · rw [cl.1.2.1] at m1
        omega
      · rw [cl.1.1] at k1
        omega
    refine TI_0 (n := hN v.1 + 1) (K := K) (O := O) pt un4 hO ⟨rfl, rfl, rfl, rfl, rfl, rfl⟩ (fun i hi => ?_) ?_ ?_ ⟨⟨?_, ?_, ?_, ?_, ?_⟩, fun i h1 h2 => ?_⟩ ds ⟨?_, ?_, fun i h1 h2 => ?_⟩ tg px cl b55 (by omega)
    · show K ((i : Int)).toNat = K i
      rw [Int.toNat_natCast]
    · rw [R0, R3, (rF 7 (by decide)).1]; exact e7
    · rw [R0, (rF 9 (by decide)).2, (rf 9 (by decide)).2]; exact i9
    · rw [R0, RR_c (by decide), (rF 10 (by decide)).1, (rf 10 (by decide)).1]; exact g10
    · rw [R0, RR_c (by decide), (rF 11 (by decide)).1, (rf 11 (by decide)).1]; exact g11
    · rw [R0, RR_c (by decide), (rF 12 (by decide)).1, (rf 12 (by decide)).1]; exact g12
    · rw [R0, RR_c (by decide), (rF 13 (by decide)).1, (rf 13 (by decide)).1]; exact g13
    · rw [R0, RR_c (by decide), (rF 17 (by decide)).1, (rf 17 (by decide)).1]; exact g17
    · rw [RR_c h1]
      refine ⟨kC4 i h1 h2, ?_, ?_⟩
      · have l3 : C i < hN v3.1 := hK_lt (f03.kk (kC i h1 h2) (by decide)) (by decide)
        rw [(f4.cc l3 (fun y => by
          have y2 := y.2
          omega)).1, (f03.cc (lC i h1 h2) (fun y => by
          have y2 := y.2
          omega)).1]
        exact ls i h1 h2
      · have := lC i h1 h2
        omega
    · show TT (hN v.1) C (hN v.1 + 1) = 6
      unfold TT
      rw [if_pos (Or.inl rfl)]
    · show TT (hN v.1) C (hN v.1 + 3) = 6
      unfold TT
      rw [if_pos (Or.inr rfl)]
    · by_cases y : i < 10
      · have hi : i = 8 ∨ i = 9 := by omega
        rcases hi with rfl | rfl
        · show TT (hN v.1) C (hN v.1 + 5) = 3
          unfold TT
          rw [if_neg (by omega), if_pos (Or.inl rfl)]
        · show TT (hN v.1) C (hN v.1 + 6) = 3
          unfold TT
          rw [if_neg (by omega), if_pos (Or.inr (Or.inl rfl))]
      · rw [RR_c (by omega)]
        exact T3 i (by omega) h2
  · rw [Kt_x]
    refine q2' z h4 v4 c4 ((f03.mono m3).tr2 f4 (fun a k y => Or.inr ?_)) e6 (by omega) (by omega) (by omega)
    rcases y with y | y
    · exact Or.inl ⟨y.1, by have := y.2; omega, by have := y.2; omega, by have := y.2; omega⟩
    · exact Or.inr (Or.inl y)
end RDC
