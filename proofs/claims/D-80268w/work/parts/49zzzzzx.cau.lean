/-! COMPONENT, 65: the kinds of a catch *-/
section CAU
variable {r ca l : Nat} {h : am_H} {R : Nat → Nat} {A : Nat → Int → Nat} {w p0 : Int} {v : vT} {S U : tSt} {Q : am_O → am_H → Prop} {L : List tMi} {kf pf : Int → Int} {l1 l2 l4 l5 : Option am_V}
theorem ct_onea (c : CR h v) (t : PT v (R 0) (R 1) (R 2) S) (y : RUn v (R 0) (R 3) (R 5) (R 9)) (ml : ML v (R 9) L) (hl : L.length ≤ 2790) (km : KMp v (R 5) (A 0) U w p0) (pp : p0 ≤ S 49 0) (nlx : l ≠ R 9) (kc : hK v.1 ca = 22) (rc : hR v.1 ca 1 = some l) {n : Int} (n4 : n ≤ 4) (x : NL v (A 0) l n kf pf) (ek : kf n = kO U w (S 50 0) (S 49 0)) (ep : pf n = S 49 0)
    (q1 : tIsN S = true → tName S 51 0 ≠ -2 → ∀ h' v' nm, CR h' v' → Fw (Xs (R 0) (R 2) l (R 9)) v v' → PT v' (R 0) (R 1) (R 2) (tName S) → NL v' (A 0) l (n + 1) kf pf → ML v' (R 9) (insA L (if kO U w (S 50 0) (S 49 0) = -1 then [(1, (S 49 0, -1))] else [])) → RM (R 9) v v' (20 * (tName S 47 0 - S 47 0) + 8) (200 * (tName S 47 0 - S 47 0) + 80) → Rn (r + 1) 283 63 [some (vR (some (R 0))), l1, l2, some (vR (some ca)), some (vR (some nm)), l5] [] h' Q)
    (q2 : tIsN S = true → tName S 51 0 = -2 → ∀ h' v', CR h' v' → Wg (R 0) (R 2) 4 40 v v' (tName S 49 0) → Q (Sum.inr (R 2)) h')
    (q3 : ¬ tIsN S = true → ∀ h' v', CR h' v' → Wg (R 0) (R 2) 4 40 v v' (S 49 0) → Q (Sum.inr (R 2)) h') : Rn (r + 1) 283 28 [some (vR (some (R 0))), l1, l2, some (vR (some ca)), l4, l5] [] h Q := by
  have k0 := t.w0.1
  have k2 := t.w0.2.1
  have si := t.2.1
  have s49 := si.2.1
  rw [sX1_caught_28, sX1_caught_29 (c.kk k0 (by decide))]
  refine t_name c t (fun n' z h1 v1 nm c1 f1 t1 na n1 s0 s1 => ?_) (fun n' z h1 v1 c1 wg => ?_) (fun n' h1 v1 c1 wg => ?_)
  · obtain ⟨f53, f54, f47, f49, f50, f51⟩ := tName_g n'
    have y1 := RUn_q t f1 y
    have ml1 := ML_q t f1 ml
    have x1 := NL_q t f1 x
    have km1 := KMp_q t f1 km
    have k01 := t1.w0.1
    have rm1 : RM (R 9) v v1 (20 * (tName S 47 0 - S 47 0) + 4) (200 * (tName S 47 0 - S 47 0) + 40) := RM_q t f1 ml (by omega) s0 (by omega)
    have kc1 := f1.kk kc (by decide)
    have nca0 : ca ≠ R 0 := fun q => by rw [q, k0] at kc; exact absurd kc (by decide)
    have nca2 : ca ≠ R 2 := fun q => by rw [q, k2] at kc; exact absurd kc (by decide)
    have rc1 : hR v1.1 ca 1 = some l := by rw [(f1.ff (k := 1) (hK_lt kc (by decide)) (fun q => by rcases q with q | q; exact nca0 q.1; exact nca2 q.1)).2.2]; exact rc
    have kr1 := c1.kk k01 (by decide)
    have kn : hK (newC h1 19 2) (R 0) = 2 := by rw [hK_newC, if_neg (by have := hK_lt kr1 (by decide); omega)]; exact kr1
    have i14 : hI v1.1 (R 0) 14 = iI (S 49 0) := by rw [na.2.2.2, f54]
    have en : hI (newC h1 19 2) (R 0) 14 = iI (S 49 0) := by rw [hI_newC, if_neg (by have := hK_lt kr1 (by decide); omega), c1.ii k01 rfl]; exact i14
    have tx0 : vTx v1 nm ≠ [] := fun q => by
      have := na.2.1
      rw [q, f53] at this
      exact (tIsN_iff.mp n').1 this.symm
    have mp : vMp v1 (R 5) (vTx v1 nm) = optA (A 0) (kf n) := by
      have := km1.1 (vTx v1 nm) na.2.2.1 tx0 (S 49 0) pp
      rw [na.2.1, f53, ← ek] at this
      exact this
    rw [Kt_v, sX1_caught_32, sX1_caught_34, sX1_caught_35 (c1.kk kc1 (by decide)), c1.rr kc1 rfl, rc1, sX1_caught_38, sX1_caught_41, sX1_caught_42, sX1_caught_43, sX1_caught_45, sX1_caught_46 kn, en, sX1_caught_49 kn]
    refine nm_add (K2 := Kt (r + 1) 283 59 [some (vR (some (R 0))), l1, l2, some (vR (some ca)), some (vR (some nm)), l5] [vR (some (hN h1)), vR (some l)] Q) (K3 := Kt (r + 1) 283 62 [some (vR (some (R 0))), l1, l2, some (vR (some ca)), some (vR (some nm)), l5] [] Q) (n := n) (kf := kf) (pf := pf) c1 y1 ml1 (by omega) na.1 na.2.2.1.1 (by omega) x1 n4 nlx mp (fun q => ?_) ep i14 (fun z h2 e1 e2 e3 yy => ?_) (fun h2 e1 yy => ?_) (fun h2 v2 c2 f2 nl2 ml2 rm2 => ?_)
    · rw [ek] at q ⊢
      have kb := kO_b (U := U) (w := w) (x := S 50 0) (a := S 49 0) km1.2.2.2
      exact km1.2.1 _ (by omega) kb.2
    · rw [Kt_v, sX1_caught_52, sX1_caught_53 e2, e1, sX1_caught_56 (by rw [e3]; decide) (by rw [e3]; decide)]
      exact yy
    · rw [Kt_0, sX1_caught_59 e1]
      exact yy
    · rw [Kt_v, sX1_caught_62]
      have kk : ∀ b k, ((b = R 9 ∨ b = l) ∧ k = 99) → hK v1.1 b = 4 := fun b k q => by
        rcases q.1 with q | q
        · rw [q]; exact ml1.1.choose_spec.1.1
        · rw [q]; exact x1.1
      refine q1 n' z h2 v2 nm c2 ((f1.mono (fun b k q => Or.inl q)).trans (f2.mono (fun b k q => Or.inr q))) (PT_fw f2 t1 (fun k hk q => by omega) (fun k q => by have := t1.w0.2.2; rw [kk _ _ q] at this; exact absurd this (by decide)) (fun b q => by rw [kk _ _ q]; decide)) nl2 (by rw [← ek]; exact ml2) ((rm1.trans rm2).le (by omega) (by omega))
  · rw [Kt_x]
    exact q2 n' z h1 v1 c1 wg
  · rw [Kt_x]
    exact q3 n' h1 v1 c1 wg
theorem ct_oneb (c : CR h v) (t : PT v (R 0) (R 1) (R 2) S) (y : RUn v (R 0) (R 3) (R 5) (R 9)) (ml : ML v (R 9) L) (hl : L.length ≤ 2790) (km : KMp v (R 5) (A 0) U w p0) (pp : p0 ≤ S 49 0) (nlx : l ≠ R 9) (kc : hK v.1 ca = 22) (rc : hR v.1 ca 1 = some l) {n : Int} (n4 : n ≤ 4) (x : NL v (A 0) l n kf pf) (ek : kf n = kO U w (S 50 0) (S 49 0)) (ep : pf n = S 49 0)
    (q1 : tIsN S = true → tName S 51 0 ≠ -2 → ∀ h' v' nm, CR h' v' → Fw (Xs (R 0) (R 2) l (R 9)) v v' → PT v' (R 0) (R 1) (R 2) (tName S) → NL v' (A 0) l (n + 1) kf pf → ML v' (R 9) (insA L (if kO U w (S 50 0) (S 49 0) = -1 then [(1, (S 49 0, -1))] else [])) → RM (R 9) v v' (20 * (tName S 47 0 - S 47 0) + 8) (200 * (tName S 47 0 - S 47 0) + 80) → Rn (r + 1) 283 63 [some (vR (some (R 0))), l1, l2, some (vR (some ca)), some (vR (some nm)), l5] [] h' Q)
    (q2 : tIsN S = true → tName S 51 0 = -2 → ∀ h' v', CR h' v' → Wg (R 0) (R 2) 4 40 v v' (tName S 49 0) → Q (Sum.inr (R 2)) h')
    (q3 : ¬ tIsN S = true → ∀ h' v', CR h' v' → Wg (R 0) (R 2) 4 40 v v' (S 49 0) → Q (Sum.inr (R 2)) h') : Rn (r + 1) 283 96 [some (vR (some (R 0))), l1, l2, some (vR (some ca)), l4, l5] [] h Q := by
  have k0 := t.w0.1
  have k2 := t.w0.2.1
  have si := t.2.1
  have s49 := si.2.1
  rw [sX1_caught_96, sX1_caught_97 (c.kk k0 (by decide))]
  refine t_name c t (fun n' z h1 v1 nm c1 f1 t1 na n1 s0 s1 => ?_) (fun n' z h1 v1 c1 wg => ?_) (fun n' h1 v1 c1 wg => ?_)
  · obtain ⟨f53, f54, f47, f49, f50, f51⟩ := tName_g n'
    have y1 := RUn_q t f1 y
    have ml1 := ML_q t f1 ml
    have x1 := NL_q t f1 x
    have km1 := KMp_q t f1 km
    have k01 := t1.w0.1
    have rm1 : RM (R 9) v v1 (20 * (tName S 47 0 - S 47 0) + 4) (200 * (tName S 47 0 - S 47 0) + 40) := RM_q t f1 ml (by omega) s0 (by omega)
    have kc1 := f1.kk kc (by decide)
    have nca0 : ca ≠ R 0 := fun q => by rw [q, k0] at kc; exact absurd kc (by decide)
    have nca2 : ca ≠ R 2 := fun q => by rw [q, k2] at kc; exact absurd kc (by decide)
    have rc1 : hR v1.1 ca 1 = some l := by rw [(f1.ff (k := 1) (hK_lt kc (by decide)) (fun q => by rcases q with q | q; exact nca0 q.1; exact nca2 q.1)).2.2]; exact rc
    have kr1 := c1.kk k01 (by decide)
    have kn : hK (newC h1 19 2) (R 0) = 2 := by rw [hK_newC, if_neg (by have := hK_lt kr1 (by decide); omega)]; exact kr1
    have i14 : hI v1.1 (R 0) 14 = iI (S 49 0) := by rw [na.2.2.2, f54]
    have en : hI (newC h1 19 2) (R 0) 14 = iI (S 49 0) := by rw [hI_newC, if_neg (by have := hK_lt kr1 (by decide); omega), c1.ii k01 rfl]; exact i14
    have tx0 : vTx v1 nm ≠ [] := fun q => by
      have := na.2.1
      rw [q, f53] at this
      exact (tIsN_iff.mp n').1 this.symm
    have mp : vMp v1 (R 5) (vTx v1 nm) = optA (A 0) (kf n) := by
      have := km1.1 (vTx v1 nm) na.2.2.1 tx0 (S 49 0) pp
      rw [na.2.1, f53, ← ek] at this
      exact this
    rw [Kt_v, sX1_caught_100, sX1_caught_102, sX1_caught_103 (c1.kk kc1 (by decide)), c1.rr kc1 rfl, rc1, sX1_caught_106, sX1_caught_109, sX1_caught_110, sX1_caught_111, sX1_caught_113, sX1_caught_114 kn, en, sX1_caught_117 kn]
    refine nm_add (K2 := Kt (r + 1) 283 127 [some (vR (some (R 0))), l1, l2, some (vR (some ca)), some (vR (some nm)), l5] [vR (some (hN h1)), vR (some l)] Q) (K3 := Kt (r + 1) 283 130 [some (vR (some (R 0))), l1, l2, some (vR (some ca)), some (vR (some nm)), l5] [] Q) (n := n) (kf := kf) (pf := pf) c1 y1 ml1 (by omega) na.1 na.2.2.1.1 (by omega) x1 n4 nlx mp (fun q => ?_) ep i14 (fun z h2 e1 e2 e3 yy => ?_) (fun h2 e1 yy => ?_) (fun h2 v2 c2 f2 nl2 ml2 rm2 => ?_)
    · rw [ek] at q ⊢
      have kb := kO_b (U := U) (w := w) (x := S 50 0) (a := S 49 0) km1.2.2.2
      exact km1.2.1 _ (by omega) kb.2
    · rw [Kt_v, sX1_caught_120, sX1_caught_121 e2, e1, sX1_caught_124 (by rw [e3]; decide) (by rw [e3]; decide)]
      exact yy
    · rw [Kt_0, sX1_caught_127 e1]
      exact yy
    · rw [Kt_v, sX1_caught_130, sX1_caught_131]
      have kk : ∀ b k, ((b = R 9 ∨ b = l) ∧ k = 99) → hK v1.1 b = 4 := fun b k q => by
        rcases q.1 with q | q
        · rw [q]; exact ml1.1.choose_spec.1.1
        · rw [q]; exact x1.1
      refine q1 n' z h2 v2 nm c2 ((f1.mono (fun b k q => Or.inl q)).trans (f2.mono (fun b k q => Or.inr q))) (PT_fw f2 t1 (fun k hk q => by omega) (fun k q => by have := t1.w0.2.2; rw [kk _ _ q] at this; exact absurd this (by decide)) (fun b q => by rw [kk _ _ q]; decide)) nl2 (by rw [← ek]; exact ml2) ((rm1.trans rm2).le (by omega) (by omega))
  · rw [Kt_x]
    exact q2 n' z h1 v1 c1 wg
  · rw [Kt_x]
    exact q3 n' h1 v1 c1 wg
end CAU
