/-! COMPONENT, 89: what a method is told to throw (way, pc 142-150) *-/
section WYR
variable {r rd tp wr u mk lx a nm0 : Nat} {h : am_H} {v : vT} {w x p0 : Int} {S U : tSt} {A : Int → Nat} {L : List tMi} {Q : am_O → am_H → Prop} {l3 : Option am_V}
theorem wy_told (c : CR h v) (t : PT v rd tp wr S) (s52 : S 52 0 = -1) (s51 : S 51 0 ≠ -2) (y : RUn v rd u mk lx) (kx : hK v.1 lx = 4) (ml : ML v lx L) (hl : L.length ≤ 2750) (km : KMp v mk A U w p0) (pp : p0 ≤ S 47 0) (ka : hK v.1 a = 18) (u15 : U 15 x = 0)
    (q1 : ∀ (N : List (Int × Int)) (X : tSt) (h' : am_H) (v' : vT) (n m : Int), N.length ≤ 4 → tWay3 w x S U = tWay4 w x X (nW 15 16 17 x N U) → X 51 0 ≠ -2 → CR h' v' → Fw (fun b k => Xm rd wr lx b k ∨ (b = a ∧ k = 7)) v v' → PT v' rd tp wr X → Tks S X → X 52 0 = -1 → S 47 0 ≤ X 47 0 → X 48 0 = S 48 0 → hR v'.1 a 7 = some (hN v.1) → NL v' A (hN v.1) N.length (nK U w N) (nP N) → ML v' lx (insA L (mNs U w N)) → RM lx v v' n m → n ≤ 20 * (X 47 0 - S 47 0) + 42 → m ≤ 200 * (X 47 0 - S 47 0) + 405 → Rn (r + 1) 84 150 [some (vR (some rd)), some (vR (some nm0)), some (vR (some a)), l3] [] h' Q)
    (q2 : ∀ h' v' p, CR h' v' → FL rd wr lx (Xm rd wr lx) v v' p (20 * (S 48 0 - S 47 0) + 42) (200 * (S 48 0 - S 47 0) + 405) → doom w (tWay3 w x S U) p → Q (Sum.inr wr) h') :
    Rn (r + 1) 84 142 [some (vR (some rd)), some (vR (some nm0)), some (vR (some a)), l3] [] h Q := by
  have kr := t.w0.1
  have kw := t.w0.2.1
  have si := t.2.1
  have tk := t.2.2.1
  have nar : a ≠ rd := fun q => by rw [q, kr] at ka; exact absurd ka (by decide)
  have naw : a ≠ wr := fun q => by rw [q, kw] at ka; exact absurd ka (by decide)
  have nax : a ≠ lx := fun q => by rw [q, kx] at ka; exact absurd ka (by decide)
  have xa : ∀ k, ¬ Xm rd wr lx a k := fun k z => by
    rcases z with (z | z) | z
    · exact nar z.1
    · exact naw z.1
    · exact nax z.1
  rw [sX1_way_142, sX1_way_143, sX1_way_144 (c.kk kr (by decide))]
  -- the list goes into the method
  have put : ∀ (N : List (Int × Int)) (X : tSt) (h6 : am_H) (v6 : vT) (n m : Int), N.length ≤ 4 → tWay3 w x S U = tWay4 w x X (nW 15 16 17 x N U) → X 51 0 ≠ -2 → CR h6 v6 → Fw (Xm rd wr lx) v v6 → PT v6 rd tp wr X → Tks S X → X 52 0 = -1 → S 47 0 ≤ X 47 0 → X 48 0 = S 48 0 → NL v6 A (hN v.1) N.length (nK U w N) (nP N) → ML v6 lx (insA L (mNs U w N)) → RM lx v v6 n m → n ≤ 20 * (X 47 0 - S 47 0) + 42 → m ≤ 200 * (X 47 0 - S 47 0) + 405 → Rn (r + 1) 84 147 [some (vR (some rd)), some (vR (some nm0)), some (vR (some a)), l3] [vR (some (hN v.1)), vR (some a)] h6 Q := by
    intro N X h6 v6 n m hN4 tw x51 c6 f6 t6 tks x52 x47 x48 nl6 ml6 rm6 hn hm
    have ka6 := f6.kk ka (by decide)
    rw [sX1_way_147 (c6.kk ka6 (by decide))]
    have fp : Fw (fun b k => b = a ∧ k = 7) v6 (vpR v6 a 7 (some (hN v.1))) := Fw.refl.pR (Or.inr ⟨rfl, rfl⟩)
    have tpa : ∀ k, ¬ (tp = a ∧ k = 7) := fun k z => by have := t6.w0.2.2; rw [z.1, ka6] at this; exact absurd this (by decide)
    exact q1 N X _ _ n m hN4 tw x51 (CR_pR (k := 7) (z := some (hN v.1)) c6 ka6 rfl) ((f6.mono (fun _ _ z => Or.inl z)).trans (fp.mono (fun _ _ z => Or.inr z))) (PT_fw fp t6 (fun k _ z => nar z.1.symm) tpa (fun b z => by omega)) tks x52 x47 x48 (by rw [vpR_1, hR_putR, if_pos ⟨rfl, rfl⟩]) (NL_fw fp nl6 (fun z => by omega) (fun b k z hk => by omega)) (ML_fw fp ml6 (fun z => by omega) (fun b k z hk => by omega)) rm6 hn hm
  have lst := tLs_st (sp := 44) 5 0 S rfl (by decide) si tk s52
  have thr := tThr_ls (x := x) 5 0 S U u15
  refine c_throws c t s52 y ml hl km pp (fun ne h6 v6 c6 f6 nl6 rm6 => ?_) (fun eq ok n51 h6 v6 c6 f6 t6 nl6 ml6 rm6 => ?_) (fun eq bad h6 v6 c6 fl => ?_)
  · rw [Kt_v]
    refine put [] S h6 v6 2 5 (by decide) ?_ s51 c6 (f6.mono (fun _ _ z => z.elim)) (PT_0 f6 t) (Tks.rf si tk) s52 (Int.le_refl _) rfl nl6 (ML_fw f6 ml (fun z => z) (fun _ _ z => z.elim)) rm6 (by omega) (by omega)
    unfold tWay3
    rw [if_neg ne]
    rfl
  · obtain ⟨i1, i2, i3, i4, i5, i6, i7, i8, i9⟩ := lst
    rw [Kt_v]
    refine put (tLs 44 0 5 S).2.2 (tLs 44 0 5 S).2.1 h6 v6 _ _ (by omega) ?_ n51 c6 f6 t6 (tLs_tks 5 0 S si tk) (i1 ok) i8 (by rw [i7]) nl6 ml6 rm6 (Int.le_refl _) (Int.le_refl _)
    unfold tWay3
    rw [if_pos eq, thr, if_pos ok]
  · obtain ⟨i1, i2, i3, i4, i5, i6, i7, i8, i9⟩ := lst
    obtain ⟨w1, w2, w3, L', w4, w5⟩ := fl
    have lX := i3.1.2.1
    rw [i7] at lX
    rw [Kt_x]
    refine q2 h6 v6 _ c6 ⟨w1, w2, ⟨w3.1, by have := w3.2.1; omega, w3.2.2.1, by have := w3.2.2.2.1; omega, w3.2.2.2.2⟩, L', w4, w5⟩ ?_
    unfold tWay3
    rw [if_pos eq, thr]
    unfold fP
    by_cases ok : (tLs 44 0 5 S).1 = true
    · rw [if_pos ok, if_pos ok]
      exact doom_way4 (i1 ok) i3 (bad ok)
    · rw [if_neg ok, if_neg ok]
      exact ⟨_, tGo_refl _, rfl, i2 ok⟩
end WYR
