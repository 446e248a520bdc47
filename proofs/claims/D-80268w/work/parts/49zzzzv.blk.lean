/-! COMPONENT, 37: a block is read *-/
section BLS
variable {r a l : Nat} {h : am_H} {R : Nat → Nat} {A A0 : Nat → Int → Nat} {T T0 : Nat → Nat} {w b own p0 : Int} {v v0 v' : vT} {S S' S0 U U0 U1 : tSt} {o : Option Nat} {Q : am_O → am_H → Prop} {X : Nat → Nat → Prop}
theorem PT_dep {rd tp wr : Nat} (t : PT v rd tp wr S) (e : ∀ f, f ≠ 55 → f ≠ 56 → S' f = S f) (h55 : 0 ≤ S' 55 0 ∧ S' 55 0 ≤ 8) : PT v rd tp wr S' := by
  obtain ⟨⟨x1, x2, x3, x4, x5⟩, ⟨s1, s2, s3, s4, s5, s6, s7, s8⟩, t3, t4, t5⟩ := t
  have e0 := e 0 (by decide) (by decide)
  have e47 := e 47 (by decide) (by decide)
  have e48 := e 48 (by decide) (by decide)
  have e49 := e 49 (by decide) (by decide)
  have e50 := e 50 (by decide) (by decide)
  have e51 := e 51 (by decide) (by decide)
  have e52 := e 52 (by decide) (by decide)
  have e53 := e 53 (by decide) (by decide)
  have e54 := e 54 (by decide) (by decide)
  unfold PT TR SI SG TK
  unfold SG at s1
  unfold TK at t3
  rw [e0, e47, e48, e49, e50, e51, e52, e53, e54]
  exact ⟨⟨x1, x2, x3, x4, x5⟩, ⟨s1, s2, s3, s4, s5, s6, s7, h55⟩, t3, t4, t5⟩
theorem tAdv_55 : tAdv S 55 = S 55 ∧ tAdv S 56 = S 56 ∧ tAdv S 48 = S 48 ∧ tAdv S 52 = S 52 := by
  unfold tAdv tTok
  refine ⟨?_, ?_, ?_, ?_⟩ <;> rw [up_n (by decide), up_n (by decide), up_n (by decide), up_n (by decide)]
theorem PT.si {rd tp wr : Nat} (t : PT v rd tp wr S) : SI S := t.2.1
theorem PT.le {rd tp wr : Nat} (t : PT v rd tp wr S) : S 47 0 ≤ S 48 0 := t.2.1.1.2.1
theorem CH_t (x : CH S U) : CH (tAdv S) U := by
  unfold CH
  rw [tAdv_55.1, tAdv_55.2.1]
  exact x
/-- the end of a block -/
theorem blk_end (c : CR h v) (g : GI R A T w (-1) p0 v S U) (hP : PI w S U) (pr : PR w U) (qv : QV U) (w0 : 0 ≤ w ∧ w ≤ 1) (d1 : 1 ≤ S 55 0) (e56 : S 56 (S 55 0 - 1) = b) (e42 : U 42 b = own) (s51 : S 51 0 = 125) (s52 : S 52 0 = -1)
    (tl : T l = 4) (kb : hK v.1 (A 3 b) = 21) (b1 : hI v.1 (A 3 b) 1 = iI (U 44 b)) (b0 : hR v.1 (A 3 b) 0 = some l) (kl : hK v.1 l = 4) (ls : vLs v l = (stL U w (fun s => decide (U 22 s = b))).map (fun s => some (A 2 s)))
    (q1 : xS S 51 0 ≠ -2 → ∀ h' v', CR h' v' → MX R T v v' (20 * (xS S 47 0 - S 47 0)) (200 * (xS S 47 0 - S 47 0)) → GI R A (Tst T l 1) w own p0 v' (xS S) U → FB v' A (Tst T l 1) U w b → Q (Sum.inl (some (vR (some (A 3 b))))) h')
    (q2 : xS S 51 0 = -2 → ∀ h' v', CR h' v' → Wg (R 0) (R 2) 0 0 v v' (xS S 49 0) → Q (Sum.inr (R 2)) h') : Rn r 134 82 [some (vR (some (R 0))), some (vR o), some (vR (some (A 3 b)))] [] h Q := by
  have g1 := g.1
  have kr := c.kk g1.w0.1 (by decide)
  have d8 := hP.1.2.2.2.2.2.2.2
  have k9 := g.k9
  have t1 : PT v (R 0) (R 1) (R 2) (up S 55 0 (S 55 0 - 1)) := PT_dep g1 (fun f h5 _ => up_n h5) (by rw [up_s]; omega)
  have e47 : up S 55 0 (S 55 0 - 1) 47 0 = S 47 0 := by rw [up_n (by decide)]
  rw [sX1_block_82, sX1_block_83 kr]
  refine t_next c t1 (fun z h' v' c' f' t' n1 s0 s1 _ => ?_) (fun z h' v' c' w' => ?_)
  · rw [e47] at n1 s1
    have kr' := c'.kk (f'.kk g1.w0.1 (by decide)) (by decide)
    have k' := f'.kk g1.w0.1 (by decide)
    have e9 : hI v'.1 (R 0) 9 = iI (S 55 0) := by
      rw [(f'.ff (k := 9) (hK_lt g1.w0.1 (by decide)) (fun y => by rcases y with y | y <;> omega)).1]
      exact g.2.2.2.2.2.2.1.2.2
    have c2 := CR_pI (k := 9) (x := iI (S 55 0 - 1)) c' k' rfl
    have f2 : Fw (Xn (R 0) (R 2)) v (vpI v' (R 0) 9 (iI (S 55 0 - 1))) := (f'.mono (fun a k y => by
      rcases y with y | y
      · exact Or.inl (Or.inl ⟨y.1, by omega⟩)
      · exact Or.inl (Or.inr y))).pI (Or.inr (Or.inr ⟨rfl, rfl⟩))
    have f3 : Fw (fun a k => a = R 0 ∧ k = 9) v' (vpI v' (R 0) 9 (iI (S 55 0 - 1))) := Fw.refl.pI (Or.inr ⟨rfl, rfl⟩)
    have t2 : PT (vpI v' (R 0) 9 (iI (S 55 0 - 1))) (R 0) (R 1) (R 2) (xS S) := PT_fw f3 t' (fun k hk y => by omega) (fun k y => by have := t'.w0.2.2; rw [y.1, k'] at this; exact absurd this (by decide)) (fun a y => by omega)
    have n9 : hI (vpI v' (R 0) 9 (iI (S 55 0 - 1))).1 (R 0) 9 = iI (S 55 0 - 1) := by rw [vpI_1, hI_putI, if_pos ⟨rfl, rfl⟩]
    have hn : hN (vpI v' (R 0) 9 (iI (S 55 0 - 1))).1 = hN v'.1 := rfl
    have hs : hS (vpI v' (R 0) 9 (iI (S 55 0 - 1))).1 = hS v'.1 := rfl
    have m0 : MX R T v (vpI v' (R 0) 9 (iI (S 55 0 - 1))) (20 * (xS S 47 0 - S 47 0)) (200 * (xS S 47 0 - S 47 0)) := by
      have := MX_q (T := T) f' k9 n1 s0 s1
      refine ⟨this.1.pI (Or.inr (Or.inl ⟨rfl, by omega⟩)), this.2⟩
    rw [Kt_0, sX1_block_86, sX1_block_87, sX1_block_88 kr', c'.ii k' rfl, e9, sX1_block_91, sX1_block_92, i_1, iI_sub, sX1_block_93 kr', sX1_block_96, sX1_block_97]
    generalize (vpI v' (R 0) 9 (iI (S 55 0 - 1))) = v2 at *
    have kx : ∀ c k, Xn (R 0) (R 2) c k → (hK v.1 c = 2 ∨ hK v.1 c = 3) ∧ k ≠ 99 := fun c k y => by
      rcases y with (y | y) | y
      · exact ⟨Or.inl (by rw [y.1]; exact g1.w0.1), by omega⟩
      · exact ⟨Or.inr (by rw [y.1]; exact g1.w0.2.1), by omega⟩
      · exact ⟨Or.inl (by rw [y.1]; exact g1.w0.1), by omega⟩
    have fb : FB v2 A (Tst T l 1) U w b := by
      have q := fun k => f2.ff (k := k) (hK_lt kb (by decide)) (fun y => by have := (kx _ _ y).1; omega)
      refine ⟨f2.kk kb (by decide), by rw [(q 1).1]; exact b1, l, by rw [(q 0).2.2]; exact b0, f2.kk kl (by decide), Tst_s, ?_⟩
      rw [(f2.cc (hK_lt kl (by decide)) (fun y => (kx _ _ y).2 rfl)).1]
      exact ls
    refine q1 z _ _ c2 m0 (GI_close g hP pr qv w0 d1 e56 e42 f2 t2 n9 ?_ tl kl fb) fb
    have := (tAdv_47 t1.2.1).1
    rw [e47] at this
    exact this
  · rw [Kt_x]
    exact q2 z h' v' c' w'
end BLS
