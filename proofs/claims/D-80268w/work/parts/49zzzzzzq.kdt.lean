/-! COMPONENT, 84: a kind is entered (kind, pc 61-128) *-/
section KDT
variable {r rd u lk mk lx n1 n2 : Nat} {h : am_H} {v : vT} {w k2 x1 x2 p1 p2 p0 n : Int} {U : tSt} {A : Int → Nat} {L : List tMi} {Q : am_O → am_H → Prop} {l3 l4 : Option am_V}
theorem kd_add (c : CR h v) (kr : hK v.1 rd = 2) (r7 : hR v.1 rd 7 = some u) (ku : hK v.1 u = 5) (r0 : hR v.1 u 0 = some lk) (kl : hK v.1 lk = 4) (r1 : hR v.1 u 1 = some mk) (km : hK v.1 mk = 6) (tn : TN1 v n1 x1) (sm : ∃ L : List (List Int32), L.length ≤ 15 ∧ ∀ s z, vMp v mk s = some z → s ∈ L) (ls : vLs v lk = rowL A 0 n) (hn : 4 ≤ n ∧ n ≤ 15) (kA : ∀ k, 0 ≤ k → k < n → hK v.1 (A k) = 7)
    (q : ∀ h' v', CR h' v' → Fw (fun b k => (b = lk ∨ b = mk) ∧ k = 99) v v' → hK v'.1 (hN v.1) = 7 → (hR v'.1 (hN v.1) 0 = some n1 ∧ hI v'.1 (hN v.1) 1 = iI n ∧ hR v'.1 (hN v.1) 2 = some (A (if k2 = -1 then 1 else k2)) ∧ hI v'.1 (hN v.1) 3 = iI p1) → vLs v' lk = rowL A 0 n ++ [some (hN v.1)] → (∀ t, vMp v' mk t = if t = vTx v n1 ∧ vMp v mk t = none then some (hN v.1) else vMp v mk t) → hN v'.1 ≤ hN v.1 + 22 → hS v.1 ≤ hS v'.1 → hS v'.1 ≤ hS v.1 + 400 → Q (Sum.inl none) h') :
    Rn (r + 1) 82 94 [some (vR (some rd)), some (vR (some n1)), some (vI (iI p1)), l3, l4, some (vR (optA A k2))] [] h Q := by
  have len : (vLs v lk).length = n.toNat := by rw [ls, rowL_len]
  have key : Rn (r + 1) 82 123 [some (vR (some rd)), some (vR (some n1)), some (vI (iI p1)), l3, l4, some (vR (optA A k2))] [vR (some (A (if k2 = -1 then 1 else k2))), vR (some n1), vR (some u)] h Q := by
    rw [sX1_kind_123, sX1_kind_124 (c.kk ku (by decide))]
    refine c_uadd c ku r0 kl r1 km (Or.inl tn.1) tn.2.2 tn.2.2.1 sm (by omega) (fun h' v' c' f k7 fl l' mp b1 b2 b3 => ?_)
    rw [Kt_v, sX1_kind_127, sX1_kind_128]
    rw [len, show ((n.toNat : Nat) : Int) = n by omega] at fl
    rw [ls] at l'
    exact q h' v' c' f k7 fl l' mp b1 b2 b3
  rw [sX1_kind_94, sX1_kind_95 (c.kk kr (by decide)), c.rr kr rfl, r7, sX1_kind_98, sX1_kind_99, sX1_kind_101]
  unfold optA at key ⊢
  by_cases e : k2 = -1
  · rw [if_pos e, if_pos e] at key
    rw [if_pos e, if_neg (fun y => y rfl), sX1_kind_104, sX1_kind_105 (c.kk kr (by decide)), c.rr kr rfl, r7, sX1_kind_108 (c.kk ku (by decide)), c.rr ku rfl, r0, sX1_kind_111, sX1_kind_112 (c.kk kl (by decide)), i_1, v_get c kl (by omega) (by omega), Kt_v, ls, rowL_get (by omega) (by omega), show (0 : Int) + 1 = 1 by omega, sX1_kind_115 (by rw [c.kk (kA 1 (by omega) (by omega)) (by decide)]; decide), sX1_kind_118]
    exact key
  · rw [if_neg e, if_neg e] at key
    rw [if_neg e, if_pos (fun y => by cases y), sX1_kind_121]
    exact key
/-- pc 61-128 -/
theorem kd_tail (c : CR h v) (y : RUn v rd u mk lx) (r0 : hR v.1 u 0 = some lk) (kl : hK v.1 lk = 4) (nl : lk ≠ lx) (kx : hK v.1 lx = 4) (m : ML v lx L) (hl : L.length ≤ 14000) (t1 : TN1 v n1 x1) (t2 : TN1 v n2 x2) (z1 : x1 ≠ 0) (z2 : x2 ≠ 0) (sm : ∃ L : List (List Int32), L.length ≤ 15 ∧ ∀ s z, vMp v mk s = some z → s ∈ L) (ls : vLs v lk = rowL A 0 (U 3 w)) (u3 : U 3 w ≠ 16) (kmp : KMp v mk A U w p0) (h1 : p0 ≤ p1 ∧ -1 ≤ p1 ∧ p1 < 100000) (h2 : p0 ≤ p2 ∧ -1 ≤ p2 ∧ p2 < 100000) (kk : ∀ x p, kO U w x p = -1 ∨ (0 ≤ kO U w x p ∧ kO U w x p < U 3 w))
    (q : ∀ h' v' nk, CR h' v' → Fw (fun b k => (b = lk ∨ b = mk ∨ b = lx) ∧ k = 99) v v' → hN v.1 ≤ nk → hK v'.1 nk = 7 → (hR v'.1 nk 0 = some n1 ∧ hI v'.1 nk 1 = iI (U 3 w) ∧ hR v'.1 nk 2 = some (A (if kO U w x2 p2 = -1 then 1 else kO U w x2 p2)) ∧ hI v'.1 nk 3 = iI p1) → vLs v' lk = rowL A 0 (U 3 w) ++ [some nk] → (∀ t, vMp v' mk t = if t = vTx v n1 ∧ vMp v mk t = none then some nk else vMp v mk t) → ML v' lx (insA (insA L (if kO U w x2 p2 = -1 then [(1, (p2, -1))] else [])) (if kO U w x1 p1 ≠ -1 then [(2, (p1, -1))] else [])) → RM lx v v' 26 406 → Q (Sum.inl none) h') :
    Rn (r + 1) 82 61 [some (vR (some rd)), some (vR (some n1)), some (vI (iI p1)), some (vR (some n2)), some (vI (iI p2)), none] [] h Q := by
  have y' := y
  obtain ⟨y1, y2, y3, y4, y5, y6⟩ := y
  obtain ⟨km1, km2, km3, km4⟩ := kmp
  have ne : ∀ {a : Nat} {x : Int}, TN1 v a x → x ≠ 0 → vTx v a ≠ [] := fun {a x} t z e => z (by rw [← t.2.1, e]; rfl)
  have mp2 : vMp v mk (vTx v n2) = optA A (kO U w x2 p2) := by rw [km1 _ t2.2.2 (ne t2 z2) p2 h2.1, t2.2.1]
  have mp1 : vMp v mk (vTx v n1) = optA A (kO U w x1 p1) := by rw [km1 _ t1.2.2 (ne t1 z1) p1 h1.1, t1.2.1]
  have nlm : lk ≠ mk ∧ lx ≠ mk := ⟨fun e => by rw [e, y5] at kl; exact absurd kl (by decide), fun e => by rw [e, y5] at kx; exact absurd kx (by decide)⟩
  -- behind the lookup of the parent
  have B : ∀ (h1' : am_H) (va : vT), CR h1' va → Fw (fun b k => b = lx ∧ k = 99) v va → ML va lx (insA L (if kO U w x2 p2 = -1 then [(1, (p2, -1))] else [])) → RM lx v va 2 3 → Rn (r + 1) 82 70 [some (vR (some rd)), some (vR (some n1)), some (vI (iI p1)), some (vR (some n2)), some (vI (iI p2)), some (vR (optA A (kO U w x2 p2)))] [] h1' Q := by
    intro ha va ca fa ma rma
    have nx : ∀ {b k : Nat}, hK v.1 b = k → k ≠ 0 → k ≠ 4 → ∀ j, ¬ (b = lx ∧ j = 99) := fun {b k} e e0 e4 j q => by rw [q.1, kx] at e; omega
    have kra := fa.kk y1 (by decide)
    have kua := fa.kk y3 (by decide)
    have kma := fa.kk y5 (by decide)
    have r7a : hR va.1 rd 7 = some u := by rw [(fa.ff (k := 7) (hK_lt y1 (by decide)) (nx y1 (by decide) (by decide) _)).2.2]; exact y2
    have r1a : hR va.1 u 1 = some mk := by rw [(fa.ff (k := 1) (hK_lt y3 (by decide)) (nx y3 (by decide) (by decide) _)).2.2]; exact y4
    have r5a : hR va.1 u 5 = some lx := by rw [(fa.ff (k := 5) (hK_lt y3 (by decide)) (nx y3 (by decide) (by decide) _)).2.2]; exact y6
    have mpa : vMp va mk = vMp v mk := (fa.cc (hK_lt y5 (by decide)) (fun q => nlm.2 q.1.symm)).2.1
    have txa : vTx va n1 = vTx v n1 := (fa.cc (hK_lt t1.1 (by decide)) (nx t1.1 (by decide) (by decide) _)).2.2.2
    have k1a := fa.kk t1.1 (by decide)
    -- behind the look for the same name
    have C : ∀ (hb : am_H) (vb : vT), CR hb vb → Fw (fun b k => b = lx ∧ k = 99) v vb → ML vb lx (insA (insA L (if kO U w x2 p2 = -1 then [(1, (p2, -1))] else [])) (if kO U w x1 p1 ≠ -1 then [(2, (p1, -1))] else [])) → RM lx v vb 4 6 → Rn (r + 1) 82 94 [some (vR (some rd)), some (vR (some n1)), some (vI (iI p1)), some (vR (some n2)), some (vI (iI p2)), some (vR (optA A (kO U w x2 p2)))] [] hb Q := by
      intro hb vb cb fb mb rmb
      have txb : vTx vb n1 = vTx v n1 := (fb.cc (hK_lt t1.1 (by decide)) (nx t1.1 (by decide) (by decide) _)).2.2.2
      have mpb : vMp vb mk = vMp v mk := (fb.cc (hK_lt y5 (by decide)) (fun q => nlm.2 q.1.symm)).2.1
      have lsb : vLs vb lk = rowL A 0 (U 3 w) := by rw [(fb.cc (hK_lt kl (by decide)) (fun q => nl q.1)).1]; exact ls
      refine kd_add (x1 := x1) cb (fb.kk y1 (by decide)) (by rw [(fb.ff (k := 7) (hK_lt y1 (by decide)) (nx y1 (by decide) (by decide) _)).2.2]; exact y2) (fb.kk y3 (by decide)) (by rw [(fb.ff (k := 0) (hK_lt y3 (by decide)) (nx y3 (by decide) (by decide) _)).2.2]; exact r0) (fb.kk kl (by decide)) (by rw [(fb.ff (k := 1) (hK_lt y3 (by decide)) (nx y3 (by decide) (by decide) _)).2.2]; exact y4) (fb.kk y5 (by decide)) ⟨fb.kk t1.1 (by decide), by rw [txb]; exact t1.2.1, by rw [txb]; exact t1.2.2⟩ (by rw [mpb]; exact sm) lsb (by omega) (fun k i0 i1 => fb.kk (km2 k i0 i1) (by decide)) (fun h' v' c' f k7 fl l' mp b1 b2 b3 => ?_)
      have cpx : vCp v' lx = vCp vb lx := (f.cc (hK_lt (fb.kk kx (by decide)) (by decide)) (fun q => by rcases q.1 with e | e; exact nl e.symm; exact nlm.2 e)).2.2.1
      refine q h' v' (hN vb.1) c' (Fw.trans (fb.mono (fun b k q => ⟨Or.inr (Or.inr q.1), q.2⟩)) (f.mono (fun b k q => ⟨by rcases q.1 with e | e; exact Or.inl e; exact Or.inr (Or.inl e), q.2⟩))) fb.1 k7 fl l' (fun t => by rw [mp t, txb, mpb]) (ML_fw f mb (fun q => by rcases q.1 with e | e; exact nl e.symm; exact nlm.2 e) (fun b k q hk => by omega)) ?_
      obtain ⟨g1, g2, g3, g4, g5⟩ := rmb
      have := f.1
      exact ⟨by omega, by omega, by omega, by rw [cpx]; omega, by rw [cpx]; exact g5⟩
    rw [sX1_kind_70, sX1_kind_71 (ca.kk kra (by decide)), ca.rr kra rfl, r7a, sX1_kind_74 (ca.kk kua (by decide)), ca.rr kua rfl, r1a, sX1_kind_77, sX1_kind_78 (ca.kk kma (by decide))]
    refine v_mhas ca kma (Or.inl k1a) (by rw [txa]; exact t1.2.2.1) (fun hb cb => ?_)
    rw [Kt_v, sX1_kind_81, txa, mpa, mp1]
    have on : optA A (kO U w x1 p1) = none ↔ kO U w x1 p1 = -1 := by
      unfold optA
      by_cases e : kO U w x1 p1 = -1
      · rw [if_pos e]; exact ⟨fun _ => e, fun _ => rfl⟩
      · rw [if_neg e]; exact ⟨(fun q => by cases q), fun q => absurd q e⟩
    by_cases e : kO U w x1 p1 = -1
    · rw [if_pos (c := optA A (kO U w x1 p1) = none) (on.mpr e), if_pos (by decide)]
      have C' := C hb va cb fa
      rw [if_neg (c := kO U w x1 p1 ≠ -1) (fun q => q e)] at C'
      exact C' ma ⟨rma.1, by have := rma.2.1; omega, rma.2.2.1, by have := rma.2.2.2.1; omega, rma.2.2.2.2⟩
    · rw [if_neg (c := optA A (kO U w x1 p1) = none) (fun q => e (on.mp q)), if_neg (by decide), sX1_kind_84, sX1_kind_85 (cb.kk kra (by decide)), cb.rr kra rfl, r7a, sX1_kind_88, sX1_kind_89, sX1_kind_90, sX1_kind_91 (cb.kk kua (by decide)), i_2, i_m1]
      refine c_mi1 cb kua r5a ma.1 (by rw [insA_len]; split <;> simp only [List.length_singleton, List.length_nil] <;> omega) (by omega) (by omega) (by omega) (fun hc vc cc fc mc => ?_)
      rw [Kt_0]
      obtain ⟨mlc, rmc⟩ := ML_add ma mc fc.1
      have C' := C hc vc cc (fa.trans fc)
      rw [if_pos (c := kO U w x1 p1 ≠ -1) e] at C'
      have rr := rma.trans rmc
      simp only [List.length_singleton] at rr
      exact C' mlc rr
  rw [sX1_kind_61, sX1_kind_62, sX1_kind_63, sX1_kind_65 (c.kk y1 (by decide))]
  refine c_known c y' m.1 (by omega) t2.1 t2.2.2.1 h2.2 (fun z e => ?_) (fun h' z c' e => ?_) (fun h' v' c' e f ma => ?_)
  · rw [mp2] at e
    unfold optA at e
    rcases kk x2 p2 with k | k
    · rw [if_pos k] at e; cases e
    · rw [if_neg (by omega)] at e
      cases e
      exact km2 _ k.1 k.2
  · rw [Kt_v, sX1_kind_68, ← e, mp2]
    have k : kO U w x2 p2 ≠ -1 := fun k => by
      rw [mp2] at e
      unfold optA at e
      rw [if_pos k] at e
      cases e
    have B' := B h' v c' Fw.refl
    rw [if_neg k] at B'
    exact B' m ⟨Nat.le_refl _, by omega, Nat.le_refl _, by omega, Nat.le_refl _⟩
  · rw [Kt_v, sX1_kind_68]
    have k : kO U w x2 p2 = -1 := by
      rcases kk x2 p2 with k | k
      · exact k
      · rw [mp2] at e
        unfold optA at e
        rw [if_neg (by omega)] at e
        cases e
    obtain ⟨mlc, rmc⟩ := ML_add m ma f.1
    have B' := B h' v' c' f
    rw [if_pos k] at B'
    have e0 : (none : Option Nat) = optA A (kO U w x2 p2) := by unfold optA; rw [if_pos k]
    rw [e0]
    exact B' mlc rmc
end KDT
