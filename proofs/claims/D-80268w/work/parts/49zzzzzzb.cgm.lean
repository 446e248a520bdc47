/-! COMPONENT, 69: a catch up to its block *-/
section CGM
variable {r a ca lk e : Nat} {h : am_H} {R : Nat → Nat} {A : Nat → Int → Nat} {w s p0 b x : Int} {v : vT} {S U X : tSt} {o lp hd : Option Nat} {N : List (Int × Int)} {ok : Bool} {Q : am_O → am_H → Prop} {L : List tMi} {l1 : Option am_V} {rd nm : Nat}
/-- look, from an object that holds a try alone -/
theorem c_look_e (kn : hK v.1 nm = 10) (ln : lts (vTx v nm)) (hx : wN (vTx v nm) = x) (c : CR h v) (kr : hK v.1 rd = 2) (ao : AO v e o lp none false hd) (ar : AR v A U (b + 2).toNat b o)
    (q : ∀ h' v', CR h' v' → Fw (fun a k => a = rd ∧ (k = 15 ∨ k = 16)) v v' → hR v'.1 rd 15 = optA (A 4) (pO U x b).1 → ((pO U x b).1 ≠ -1 → hI v'.1 rd 16 = bI ((pO U x b).2 = true)) → hN v'.1 = hN v.1 → hS v'.1 = hS v.1 → Q (Sum.inl none) h') :
    Cl r 280 [vR (some rd), vR (some nm), vR (some e)] h Q := by
  have k1 := c.kk kr (by decide)
  have f1 : Fw (fun a k => a = rd ∧ (k = 15 ∨ k = 16)) v (vpI (vpR v rd 15 none) rd 16 0) := (Fw.refl.pR (Or.inr ⟨rfl, Or.inl rfl⟩)).pI (Or.inr ⟨rfl, Or.inr rfl⟩)
  have c1 := CR_pI (k := 16) (x := (0 : Int32)) (CR_pR (k := 15) (z := none) c kr rfl) (by exact kr) rfl
  have ne : e ≠ rd := fun z => by have := ao.1; rw [z, kr] at this; exact absurd this (by decide)
  have r15 : hR (vpI (vpR v rd 15 none) rd 16 0).1 rd 15 = none := by rw [vpI_1, hR_putI, vpR_1, hR_putR, if_pos ⟨rfl, rfl⟩]
  have ao1 : AO (vpI (vpR v rd 15 none) rd 16 0) e o lp none false hd := AO_fw f1 (fun k z => ne z.1) ao
  have go : Rn r 280 15 [some (vR (some rd)), some (vR (some nm)), some (vR (some e)), some (vI (bI (false = true))), some (vR (some e))] [] (putI (putR h rd 15 none) rd 16 0) Q := by
    rw [lk_over c1 (by exact kr) r15 ao1, Bool.or_false]
    refine c_lookL (v := vpI (vpR v rd 15 none) rd 16 0) (by exact kn) (by exact ln) (by exact hx) c1 (by exact kr) r15 (b + 2).toNat b o false (AR_fw f1 (fun a k z => ?_) _ _ _ ar) (fun h' v' c' f' e1 e2 n1 s1 => ?_)
    · rw [z.1, kr]
      exact ⟨by decide, fun y => absurd y (by decide), fun y => by have := z.2; omega⟩
    · exact q h' v' c' (f1.trans f') e1 e2 n1 s1
  rw [eX1_look, sX1_look_0, sX1_look_1, sX1_look_2 k1, sX1_look_5, sX1_look_6, sX1_look_7 (by rw [hK_putR]; exact k1) rfl, sX1_look_10, sX1_look_11, sX1_look_12, sX1_look_13]
  exact go
/-- where the head of a catch fails -/
def FC (ok : Bool) (X : tSt) (p : Int) : Prop := (¬ ok = true → p = X 52 0) ∧ (ok = true → ¬ tIsN X = true → p = X 49 0) ∧ (ok = true → tIsN X = true → tName X 51 0 ≠ 41 → p = tName X 49 0) ∧ (ok = true → tIsN X = true → tName X 51 0 = 41 → tAdv (tName X) 51 0 = -2 ∧ p = tAdv (tName X) 49 0)
/-- what the head of a catch changes behind its bracket -/
def XH (R : Nat → Nat) (ca lk : Nat) (b k : Nat) : Prop := Xr (R 0) (R 2) b k ∨ ((b = R 9 ∨ b = lk) ∧ k = 99) ∨ (b = ca ∧ k = 2)
theorem cg_par (c : CR h v) (t : PT v (R 0) (R 1) (R 2) X) (x52 : X 52 0 = -1) (x51 : X 51 0 ≠ -2) (ru : RUn v (R 0) (R 3) (R 5) (R 9)) (ml : ML v (R 9) L) (hl : L.length ≤ 2790) (kc : hK v.1 ca = 22) (nlx : lk ≠ R 9) (nl : NL v (A 0) lk N.length (nK U w N) (nP N)) (ao : AO v e o none none false (some a)) (ar : ∀ v', Fw (XH R ca lk) v v' → AR v' A U (b + 2).toNat b o)
    (q1 : tIsN X = true → tName X 51 0 = 41 → tAdv (tName X) 51 0 ≠ -2 → ∀ h' v' l4', CR h' v' → Fw (XH R ca lk) v v' → PT v' (R 0) (R 1) (R 2) (tAdv (tName X)) → TXn v' (hR v'.1 ca 2) (X 50 0) → NL v' (A 0) lk N.length (nK U w N) (nP N) → ML v' (R 9) (insA L (if (pO U (X 50 0) b).1 ≠ -1 then [(2, (X 49 0, -1))] else [])) → RM (R 9) v v' (20 * (tAdv (tName X) 47 0 - X 47 0) + 8) (200 * (tAdv (tName X) 47 0 - X 47 0) + 60) →
      Rn r 283 177 [some (vR (some (R 0))), l1, some (vR (some e)), some (vR (some ca)), l4', none] [] h' Q)
    (q2 : ∀ h' v' p, CR h' v' → Fw (XH R ca lk) v v' → RM (R 9) v v' (20 * (X 48 0 - X 47 0) + 8) (200 * (X 48 0 - X 47 0) + 60) → hI v'.1 (R 2) 6 = iI p → vCp v' (R 9) ≤ 6000 → FC true X p → Q (Sum.inr (R 2)) h') : Rn r 283 134 [some (vR (some (R 0))), l1, some (vR (some e)), some (vR (some ca)), some (vR (some nm)), none] [] h Q := by
  have k0 := t.w0.1
  have k2 := t.w0.2.1
  have kt := t.w0.2.2
  have si := t.2.1
  have tk := t.2.2.1
  have le := t.le
  have s49 := si.2.1
  have kR9 : hK v.1 (R 9) = 4 := ml.1.choose_spec.1.1
  have cpl := ml.2
  have nc0 : ca ≠ R 0 := fun q => by rw [q, k0] at kc; exact absurd kc (by decide)
  have nc1 : ca ≠ R 1 := fun q => by rw [q, kt] at kc; exact absurd kc (by decide)
  have nc2 : ca ≠ R 2 := fun q => by rw [q, k2] at kc; exact absurd kc (by decide)
  have ne0 : e ≠ R 0 := fun q => by have := ao.1; rw [q, k0] at this; exact absurd this (by decide)
  have ne2 : e ≠ R 2 := fun q => by have := ao.1; rw [q, k2] at this; exact absurd this (by decide)
  have nec : e ≠ ca := fun q => by have := ao.1; rw [q, kc] at this; exact absurd this (by decide)
  have xq : ∀ b k, Xq (R 0) (R 2) b k → (b = R 0 ∨ b = R 2) ∧ k ≠ 99 := fun b k y => by
    rcases y with y | y
    · exact ⟨Or.inl y.1, by omega⟩
    · exact ⟨Or.inr y.1, by omega⟩
  have qh : ∀ b k, Xq (R 0) (R 2) b k → XH R ca lk b k := fun b k y => by
    rcases y with y | y
    · exact Or.inl (Or.inl ⟨y.1, by omega⟩)
    · exact Or.inl (Or.inr y)
  have wgf : ∀ {vx : vT} {c3 d3 : Int} {u t0 : Nat} h' v' p, CR h' v' → Fw (XH R ca lk) v vx → RM (R 9) v vx c3 d3 → vCp vx (R 9) ≤ 6000 → c3 + u ≤ 20 * (X 48 0 - X 47 0) + 8 → d3 + t0 ≤ 200 * (X 48 0 - X 47 0) + 60 → Wg (R 0) (R 2) u t0 vx v' p → FC true X p → Q (Sum.inr (R 2)) h' := fun {vx c3 d3 u t0} h' v' p c' Gx rmx cpx hc hd wg fc => by
    obtain ⟨w1, w2, w3, w4, w5⟩ := wg
    have kx := Gx.kk kR9 (by decide)
    have cp' : vCp v' (R 9) = vCp vx (R 9) := (w1.cc (hK_lt kx (by decide)) (fun y => (xq _ _ y).2 rfl)).2.2.1
    exact q2 h' v' p c' (Gx.trans (w1.mono qh)) ((rmx.trans ⟨w1.1, by omega, w4, by rw [cp']; omega, by rw [cp']; exact Nat.le_refl _⟩ : RM (R 9) v v' (c3 + u) (d3 + t0)).le hc hd) w2 (by rw [cp']; exact cpx) fc
  have rm0 : RM (R 9) v v 0 0 := ⟨Nat.le_refl _, by omega, Nat.le_refl _, by omega, Nat.le_refl _⟩
  rw [sX1_caught_134, sX1_caught_135, sX1_caught_136 (c.kk k0 (by decide))]
  refine t_name c t (fun n z h1 v1 nm1 c1 f1 t1 na n1 s0 s1 => ?_) (fun n z h1 v1 c1 wg => ?_) (fun n h1 v1 c1 wg => ?_)
  · obtain ⟨f53, f54, f47, f49, f50, f51⟩ := tName_g n
    obtain ⟨nn1, nn2, n55, n56, n48, n52, n47⟩ := nm_name si tk n
    have n48' : tName X 48 0 = X 48 0 := by rw [n48]
    have le1 : tName X 47 0 ≤ X 48 0 := by have := nn1.1.2.1; omega
    have b47 := tAdv_47 nn1
    have le2 : tAdv (tName X) 47 0 ≤ X 48 0 := by have := (SI_adv nn1).1.2.1; rw [tAdv_55.2.2.1] at this; omega
    have k01 := f1.kk k0 (by decide)
    have kc1 := f1.kk kc (by decide)
    rw [Kt_v, sX1_caught_139 (c1.kk kc1 (by decide)), sX1_caught_142, sX1_caught_143, sX1_caught_144 (by rw [hK_putR]; exact c1.kk kc1 (by decide)), hR_putR, if_pos ⟨rfl, rfl⟩, sX1_caught_147, sX1_caught_148 (by rw [hK_putR]; exact c1.kk k01 (by decide))]
    have c2 := CR_pR (k := 2) (z := some nm1) c1 kc1 rfl
    have f2 : Fw (fun b k => b = ca ∧ k = 2) v1 (vpR v1 ca 2 (some nm1)) := Fw.refl.pR (Or.inr ⟨rfl, rfl⟩)
    have r22 : hR (vpR v1 ca 2 (some nm1)).1 ca 2 = some nm1 := by rw [vpR_1, hR_putR, if_pos ⟨rfl, rfl⟩]
    have rm2 : RM (R 9) v (vpR v1 ca 2 (some nm1)) (20 * (tName X 47 0 - X 47 0) + 4) (200 * (tName X 47 0 - X 47 0) + 40) := by
      have y : RM (R 9) v v1 (20 * (tName X 47 0 - X 47 0) + 4) (200 * (tName X 47 0 - X 47 0) + 40) := RM_q t f1 ml (by omega) s0 (by omega)
      exact y
    generalize (vpR v1 ca 2 (some nm1)) = v2 at *
    generalize (putR h1 ca 2 (some nm1)) = h2 at *
    have F2 : Fw (XH R ca lk) v v2 := (f1.mono qh).trans (f2.mono (fun b k y => Or.inr (Or.inr y)))
    have k02 := F2.kk k0 (by decide)
    have na2 := f2.kk na.1 (by decide)
    have tx2 : vTx v2 nm1 = vTx v1 nm1 := (f2.cc (hK_lt na.1 (by decide)) (fun y => by omega)).2.2.2
    have i142 : hI v2.1 (R 0) 14 = iI (X 49 0) := by rw [(f2.ff (k := 14) (hK_lt k01 (by decide)) (fun y => by omega)).1, na.2.2.2, f54]
    have ao2 : AO v2 e o none none false (some a) := AO_fw f2 (fun k y => nec y.1) (AO_fw f1 (fun k y => by rcases (xq _ _ y).1 with z | z; exact ne0 z; exact ne2 z) ao)
    have ar2 := ar v2 F2
    have t2 : PT v2 (R 0) (R 1) (R 2) (tName X) := PT_fw f2 t1 (fun k _ y => nc0 y.1.symm) (fun k y => nc1 y.1.symm) (fun b y => by omega)
    have ml2 : ML v2 (R 9) L := ML_fw f2 (ML_q t f1 ml) (fun y => by omega) (fun b k y hk => by rw [y.1, kc1]; decide)
    have nl2 : NL v2 (A 0) lk N.length (nK U w N) (nP N) := NL_fw f2 (NL_q t f1 nl) (fun y => by omega) (fun b k y hk => by omega)
    have ru2 : RUn v2 (R 0) (R 3) (R 5) (R 9) := RUn_fw f2 (RUn_q t f1 ru) (fun y => nc0 y.1.symm) (fun k hk y => by
      have := (RUn_q t f1 ru).2.2.1
      rw [y.1, kc1] at this
      exact absurd this (by decide))
    -- the closing bracket
    have fin : ∀ h3 v3, CR h3 v3 → Fw (XH R ca lk) v v3 → PT v3 (R 0) (R 1) (R 2) (tName X) → hR v3.1 ca 2 = some nm1 → NL v3 (A 0) lk N.length (nK U w N) (nP N) → ML v3 (R 9) (insA L (if (pO U (X 50 0) b).1 ≠ -1 then [(2, (X 49 0, -1))] else [])) → RM (R 9) v v3 (20 * (tName X 47 0 - X 47 0) + 6) (200 * (tName X 47 0 - X 47 0) + 45) → (hK v3.1 nm1 = 10 ∧ vTx v3 nm1 = vTx v1 nm1) →
        Rn r 283 171 [some (vR (some (R 0))), l1, some (vR (some e)), some (vR (some ca)), some (vR (some nm)), none] [] h3 Q := by
      intro h3 v3 c3 F3 t3 r23 nl3 ml3 rm3 tx3
      have k03 := t3.w0.1
      have il : (if (pO U (X 50 0) b).1 ≠ -1 then [((2 : Int), (X 49 0, (-1 : Int)))] else []).length ≤ 1 := if_len
      have cp3 := ml3.2
      rw [insA_len] at cp3
      have kc3 := F3.kk kc (by decide)
      rw [sX1_caught_171, sX1_caught_172, sX1_caught_174 (c3.kk k03 (by decide)), i_41]
      refine t_want c3 t3 (by omega) (fun y51 z2 h4 v4 c4 f4 t4 n4 s04 s4 _ => ?_) (fun y51 z2 h4 v4 c4 wg => ?_) (fun y51 h4 v4 c4 wg => ?_)
      · rw [Kt_0]
        have rm4 : RM (R 9) v3 v4 (20 * (tAdv (tName X) 47 0 - tName X 47 0)) (200 * (tAdv (tName X) 47 0 - tName X 47 0)) := RM_q t3 f4 ml3 n4 s04 s4
        refine q1 n y51 z2 h4 v4 (some (vR (some nm))) c4 (F3.trans (f4.mono qh)) t4 ⟨nm1, ?_, f4.kk tx3.1 (by decide), ?_, ?_⟩ (NL_q t3 f4 nl3) (ML_q t3 f4 ml3) ((rm3.trans rm4).le (by omega) (by omega))
        · rw [(f4.ff (k := 2) (hK_lt kc3 (by decide)) (fun y => by rcases (xq _ _ y).1 with z | z; exact nc0 z; exact nc2 z)).2.2]
          exact r23
        · rw [(f4.cc (hK_lt tx3.1 (by decide)) (fun y => (xq _ _ y).2 rfl)).2.2.2, tx3.2, na.2.1, f53]
        · rw [(f4.cc (hK_lt tx3.1 (by decide)) (fun y => (xq _ _ y).2 rfl)).2.2.2, tx3.2]
          exact na.2.2.1
      · rw [Kt_x]
        refine wgf h4 v4 _ c4 F3 rm3 (by omega) (by omega) (by omega) wg ⟨fun q => absurd rfl q, fun _ q => absurd n q, fun _ _ q => absurd y51 q, fun _ _ _ => ⟨z2, rfl⟩⟩
      · rw [Kt_x]
        refine wgf h4 v4 _ c4 F3 rm3 (by omega) (by omega) (by omega) wg ⟨fun q => absurd rfl q, fun _ q => absurd n q, fun _ _ _ => rfl, fun _ _ q => absurd q y51⟩
    refine c_look_e na2 (by rw [tx2]; exact na.2.2.1.2) (by rw [tx2, na.2.1, f53]) c2 k02 ao2 ar2 (fun h3 v3 c3 f3 r15 i16 n3 s3 => ?_)
    have F3 : Fw (XH R ca lk) v v3 := F2.trans (f3.mono (fun b k y => Or.inl (Or.inl ⟨y.1, by omega⟩)))
    have k03 := f3.kk k02 (by decide)
    have t3 : PT v3 (R 0) (R 1) (R 2) (tName X) := PT_fw f3 t2 (fun k hk y => by omega) (fun k y => by have := t2.w0.2.2; rw [y.1, k02] at this; exact absurd this (by decide)) (fun b y => by omega)
    have ml3 : ML v3 (R 9) L := ML_fw f3 ml2 (fun y => by omega) (fun b k y hk => by omega)
    have nl3 : NL v3 (A 0) lk N.length (nK U w N) (nP N) := NL_fw f3 nl2 (fun y => by omega) (fun b k y hk => by omega)
    have ru3 : RUn v3 (R 0) (R 3) (R 5) (R 9) := RUn_fw f3 ru2 (fun y => by omega) (fun k hk y => by
      have := ru2.2.2.1
      rw [y.1, k02] at this
      exact absurd this (by decide))
    have r23 : hR v3.1 ca 2 = some nm1 := by rw [(f3.ff (k := 2) (hK_lt (F2.kk kc (by decide)) (by decide)) (fun y => nc0 y.1)).2.2]; exact r22
    have i143 : hI v3.1 (R 0) 14 = iI (X 49 0) := by rw [(f3.ff (k := 14) (hK_lt k02 (by decide)) (fun y => by omega)).1]; exact i142
    have kR92 := F2.kk kR9 (by decide)
    have cp3 : vCp v3 (R 9) = vCp v2 (R 9) := (f3.cc (hK_lt kR92 (by decide)) (fun y => by omega)).2.2.1
    have rm3 : RM (R 9) v v3 (20 * (tName X 47 0 - X 47 0) + 4) (200 * (tName X 47 0 - X 47 0) + 40) := by
      obtain ⟨y1, y2, y3, y4, y5⟩ := rm2
      exact ⟨by omega, by omega, by omega, by rw [cp3]; omega, by rw [cp3]; exact y5⟩
    have tx3 : hK v3.1 nm1 = 10 ∧ vTx v3 nm1 = vTx v1 nm1 := ⟨f3.kk na2 (by decide), by rw [(f3.cc (hK_lt na2 (by decide)) (fun y => by omega)).2.2.2, tx2]⟩
    rw [Kt_0, sX1_caught_151, sX1_caught_152 (c3.kk k03 (by decide)), c3.rr k03 rfl, r15, sX1_caught_155]
    by_cases q : (pO U (X 50 0) b).1 = -1
    · rw [q, optA_n, if_pos rfl]
      refine fin h3 v3 c3 F3 t3 r23 nl3 ?_ (rm3.le (by omega) (by omega)) tx3
      rw [if_neg (fun y => y q)]
      exact ml3
    · rw [optA_s q, if_neg (by simp), sX1_caught_158, sX1_caught_159 (c3.kk k03 (by decide)), c3.rr k03 rfl, ru3.2.1, sX1_caught_162, sX1_caught_163, sX1_caught_164 (c3.kk k03 (by decide)), c3.ii k03 rfl, i143, sX1_caught_167, sX1_caught_168 (c3.kk ru3.2.2.1 (by decide)), i_m1, i_2]
      refine c_mi1 c3 ru3.2.2.1 ru3.2.2.2.2.2 ml3.1 (by omega) (by omega) (by omega) (by omega) (fun h4 v4 c4 f4 ma => ?_)
      obtain ⟨y1, y2⟩ := ML_add ml3 ma f4.1
      have kR93 := f3.kk kR92 (by decide)
      rw [Kt_0]
      refine fin h4 v4 c4 (F3.trans (f4.mono (fun b k y => Or.inr (Or.inl ⟨Or.inl y.1, y.2⟩)))) (PT_fw f4 t3 (fun k hk y => by omega) (fun k y => by have := t3.w0.2.2; rw [y.1, kR93] at this; exact absurd this (by decide)) (fun b y => by rw [y.1, kR93]; decide)) (by rw [(f4.ff (k := 2) (hK_lt (F3.kk kc (by decide)) (by decide)) (fun y => by omega)).2.2]; exact r23) (NL_fw f4 nl3 (fun y => nlx y.1) (fun b k y hk => by omega)) ?_ ((rm3.trans y2).le (by simp only [List.length_singleton]; omega) (by simp only [List.length_singleton]; omega)) ⟨f4.kk tx3.1 (by decide), by rw [(f4.cc (hK_lt tx3.1 (by decide)) (fun y => by rw [y.1, kR93] at tx3; exact absurd tx3.1 (by decide))).2.2.2]; exact tx3.2⟩
      rw [if_pos q]
      exact y1
  · rw [Kt_x]
    refine wgf h1 v1 _ c1 Fw.refl rm0 (by omega) (by omega) (by omega) wg ⟨fun q => absurd rfl q, fun _ q => absurd n q, fun _ _ _ => rfl, fun _ _ q => by omega⟩
  · rw [Kt_x]
    exact wgf h1 v1 _ c1 Fw.refl rm0 (by omega) (by omega) (by omega) wg ⟨fun q => absurd rfl q, fun _ _ => rfl, fun _ q => absurd q n, fun _ q => absurd q n⟩
end CGM
