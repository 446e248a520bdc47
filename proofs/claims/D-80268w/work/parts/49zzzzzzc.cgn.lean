/-! COMPONENT, 70: a catch: kinds and parameter *-/
section CGN
variable {r a ca lk e : Nat} {h : am_H} {R : Nat → Nat} {A : Nat → Int → Nat} {w p0 b : Int} {v : vT} {S U : tSt} {o : Option Nat} {Q : am_O → am_H → Prop} {L : List tMi} {l1 : Option am_V}
theorem Xs_h : ∀ b k, Xs (R 0) (R 2) lk (R 9) b k → XH R ca lk b k := fun b k y => by
  rcases y with (y | y) | y
  · exact Or.inl (Or.inl ⟨y.1, by omega⟩)
  · exact Or.inl (Or.inr y)
  · exact Or.inr (Or.inl y)
theorem cg_mid (c : CR h v) (t : PT v (R 0) (R 1) (R 2) (tAdv S)) (si : SI S) (tk : TK S) (s52 : S 52 0 = -1) (n51 : tAdv S 51 0 ≠ -2) (ru : RUn v (R 0) (R 3) (R 5) (R 9)) (ml : ML v (R 9) L) (hl : L.length ≤ 2700) (km : KMp v (R 5) (A 0) U w p0) (pp : p0 ≤ S 47 0) (kc : hK v.1 ca = 22) (rc : hR v.1 ca 1 = some lk) (nlx : lk ≠ R 9) (mkl : R 5 ≠ lk) (kl : hK v.1 lk = 4) (ls : vLs v lk = [])
    (ao : ∀ v', Fw (XH R ca lk) v v' → AO v' e o none none false (some a)) (ar : ∀ v', Fw (XH R ca lk) v v' → AR v' A U (b + 2).toNat b o)
    (q1 : (tLs 124 0 5 S).1 = true → tIsN (tLs 124 0 5 S).2.1 = true → tName (tLs 124 0 5 S).2.1 51 0 = 41 → tAdv (tName (tLs 124 0 5 S).2.1) 51 0 ≠ -2 → ∀ h' v' l4', CR h' v' → Fw (XH R ca lk) v v' → PT v' (R 0) (R 1) (R 2) (tAdv (tName (tLs 124 0 5 S).2.1)) → TXn v' (hR v'.1 ca 2) ((tLs 124 0 5 S).2.1 50 0) → NL v' (A 0) lk (tLs 124 0 5 S).2.2.length (nK U w (tLs 124 0 5 S).2.2) (nP (tLs 124 0 5 S).2.2) →
      ML v' (R 9) (insA L (mNs U w (tLs 124 0 5 S).2.2 ++ (if (pO U ((tLs 124 0 5 S).2.1 50 0) b).1 ≠ -1 then [(2, ((tLs 124 0 5 S).2.1 49 0, -1))] else []))) → RM (R 9) v v' (20 * (tAdv (tName (tLs 124 0 5 S).2.1) 47 0 - tAdv S 47 0) + 48) (200 * (tAdv (tName (tLs 124 0 5 S).2.1) 47 0 - tAdv S 47 0) + 460) →
      Rn (r + 1) 283 177 [some (vR (some (R 0))), l1, some (vR (some e)), some (vR (some ca)), l4', none] [] h' Q)
    (q2 : ∀ h' v' p, CR h' v' → Fw (XH R ca lk) v v' → RM (R 9) v v' (20 * (S 48 0 - tAdv S 47 0) + 48) (200 * (S 48 0 - tAdv S 47 0) + 460) → hI v'.1 (R 2) 6 = iI p → vCp v' (R 9) ≤ 6000 → FC (tLs 124 0 5 S).1 (tLs 124 0 5 S).2.1 p → Q (Sum.inr (R 2)) h') : Rn (r + 1) 283 28 [some (vR (some (R 0))), l1, some (vR (some e)), some (vR (some ca)), none, none] [] h Q := by
  have si1 := t.2.1
  have tk1 := t.2.2.1
  have s49 := si1.2.1
  have le := t.le
  have e48 : tAdv S 48 0 = S 48 0 := by rw [tAdv_55.2.2.1]
  have e52 : tAdv S 52 0 = -1 := by rw [tAdv_52]; exact s52
  have a47 := tAdv_47 si
  have kR9 : hK v.1 (R 9) = 4 := ml.1.choose_spec.1.1
  have cpl := ml.2
  have rm0 : RM (R 9) v v 0 0 := ⟨Nat.le_refl _, by omega, Nat.le_refl _, by omega, Nat.le_refl _⟩
  have nl0 : ∀ kf pf, NL v (A 0) lk 0 kf pf := fun kf pf => ⟨kl, by rw [ls]; rfl, Int.le_refl _, fun i i0 i1 => by omega⟩
  have flq : ∀ h' v' p n m, CR h' v' → FL (R 0) (R 2) (R 9) (Xs (R 0) (R 2) lk (R 9)) v v' p n m → n ≤ 20 * (S 48 0 - tAdv S 47 0) + 48 → m ≤ 200 * (S 48 0 - tAdv S 47 0) + 460 → FC (tLs 124 0 5 S).1 (tLs 124 0 5 S).2.1 p → Q (Sum.inr (R 2)) h' := fun h' v' p n m c' fl hn hm fc => by
    obtain ⟨f1, f2, f3, L', f4, f5⟩ := fl
    refine q2 h' v' p c' (f1.mono Xs_h) (f3.le hn hm) f2 ?_ fc
    have := f4.2
    omega
  have k0 := t.w0.1
  have k2 := t.w0.2.1
  have nca0 : ca ≠ R 0 := fun q => by rw [q, k0] at kc; exact absurd kc (by decide)
  have nca2 : ca ≠ R 2 := fun q => by rw [q, k2] at kc; exact absurd kc (by decide)
  by_cases hn : tIsN (tAdv S) = true
  · have E := tLs_r (sp := 124) (n := 0) (d := 4) (S := S) (by decide) hn
    obtain ⟨f53, f54, f47', f49, f50, f51⟩ := tName_g hn
    obtain ⟨nn1, nn2, n55, n56, n48, n52, n47⟩ := nm_name si1 tk1 hn
    have ST := tLs_st (sp := 124) 5 0 S rfl (by decide) si tk s52
    generalize hT : tLs 124 0 5 S = TT at *
    have hM : mNs U w TT.2.2 = (if kO U w (tAdv S 50 0) (tAdv S 49 0) = -1 then [(1, (tAdv S 49 0, -1))] else []) ++ mNs U w (tLr 124 1 4 (tName (tAdv S))).2.2 := by
      rw [E]
      show mNs U w ((tName (tAdv S) 53 0, tName (tAdv S) 54 0) :: _) = _
      rw [mNs, f53, f54]
    have hX : TT.2.1 = (tLr 124 1 4 (tName (tAdv S))).2.1 := by rw [E]
    have hN : TT.2.2 = [(tName (tAdv S) 53 0, tName (tAdv S) 54 0)] ++ (tLr 124 1 4 (tName (tAdv S))).2.2 := by rw [E]; rfl
    have hO : TT.1 = (tLr 124 1 4 (tName (tAdv S))).1 := by rw [E]
    have A1 := nK_app (U := U) (w := w) (pre := []) (q := (tName (tAdv S) 53 0, tName (tAdv S) 54 0)) (M := (tLr 124 1 4 (tName (tAdv S))).2.2)
    have x47 := ST.2.2.2.2.2.2.2.1
    have x48 : TT.2.1 48 0 = S 48 0 := by rw [ST.2.2.2.2.2.2.1]
    have xle : TT.2.1 47 0 ≤ S 48 0 := by have := ST.2.2.1.1.2.1; omega
    refine ct_onea (n := 0) (kf := nK U w TT.2.2) (pf := nP TT.2.2) c t ru ml (by omega) km (by omega) nlx kc rc (by decide) (nl0 _ _) (by rw [hN]; have := A1.1; rw [f53, f54] at this ⊢; exact this) (by rw [hN]; have := A1.2; rw [f54] at this ⊢; exact this) (fun _ z2 h1 v1 nm1 c1 f1 t1 nl1 ml1 rm1 => ?_) (fun _ z2 h1 v1 c1 wg => ?_) (fun q => absurd hn q)
    · have il : (if kO U w (tAdv S 50 0) (tAdv S 49 0) = -1 then [((1 : Int), (tAdv S 49 0, (-1 : Int)))] else []).length ≤ 1 := if_len
      have ru1 : RUn v1 (R 0) (R 3) (R 5) (R 9) := RUn_fw f1 ru (fun q => by rcases q with q | q; exact (Xq_k t q).2.2.1 rfl; omega) (fun k hk q => by
        rcases q with q | q
        · have := (Xq_k t q).1
          have := ru.2.2.1
          omega
        · omega)
      have km1 := KMp_fw f1 km (fun q => by
        rcases q with q | q
        · exact (Xq_k t q).2.2.2 rfl
        · have k5 := km.2.2.1
          rcases q.1 with q | q
          · rw [q, kR9] at k5
            exact absurd k5 (by decide)
          · exact mkl q)
      have kc1 := f1.kk kc (by decide)
      have rc1 : hR v1.1 ca 1 = some lk := by
        rw [(f1.ff (k := 1) (hK_lt kc (by decide)) (fun q => by
          rcases q with (q | q) | q
          · exact nca0 q.1
          · exact nca2 q.1
          · omega)).2.2]
        exact rc
      refine ct_loop 4 [(tName (tAdv S) 53 0, tName (tAdv S) 54 0)] (tName (tAdv S)) h1 v1 _ nm1 (by simp) (by simp) c1 t1 (by rw [n52]; exact e52) z2 ru1 ml1 (by rw [insA_len]; omega) nlx km1 (by omega) kc1 rc1 mkl ?_ ?_ ?_
      · show NL v1 (A 0) lk ((1 : Nat) : Int) (nK U w ([(tName (tAdv S) 53 0, tName (tAdv S) 54 0)] ++ (tLr 124 1 4 (tName (tAdv S))).2.2)) (nP ([(tName (tAdv S) 53 0, tName (tAdv S) 54 0)] ++ (tLr 124 1 4 (tName (tAdv S))).2.2))
        rw [← hN]
        exact nl1
      · show (tLr 124 1 4 (tName (tAdv S))).1 = true → (tLr 124 1 4 (tName (tAdv S))).2.1 51 0 ≠ -2 → _
        rw [← hO, ← hX]
        intro ok x51 h2 v2 nm2 c2 f2 t2 nl2 ml2 rm2
        have nl2' : NL v2 (A 0) lk TT.2.2.length (nK U w TT.2.2) (nP TT.2.2) := by
          rw [hN]
          exact nl2
        have ml2' : ML v2 (R 9) (insA L (mNs U w TT.2.2)) := by
          rw [hM, insA_app]
          exact ml2
        have F2 : Fw (XH R ca lk) v v2 := (f1.trans f2).mono Xs_h
        have rm2' : RM (R 9) v1 v2 (20 * (TT.2.1 47 0 - tName (tAdv S) 47 0) + 32) (200 * (TT.2.1 47 0 - tName (tAdv S) 47 0) + 320) := by
          rw [hX]
          exact rm2.le (by simp) (by simp)
        have ru2 : RUn v2 (R 0) (R 3) (R 5) (R 9) := RUn_fw f2 ru1 (fun q => by rcases q with q | q; exact (Xq_k t1 q).2.2.1 rfl; omega) (fun k hk q => by
          rcases q with q | q
          · have := (Xq_k t1 q).1
            have := ru1.2.2.1
            omega
          · omega)
        have mlen : (mNs U w TT.2.2).length ≤ 4 := by
          have y : ∀ M : List (Int × Int), (mNs U w M).length ≤ M.length := by
            intro M
            induction M with
            | nil => exact Nat.le_refl _
            | cons q M ih =>
              rw [mNs, List.length_append, List.length_cons]
              have : (if kO U w q.1 q.2 = -1 then [((1 : Int), (q.2, (-1 : Int)))] else []).length ≤ 1 := if_len
              omega
          have := y TT.2.2
          have := ST.2.2.2.2.2.2.2.2
          omega
        have x52 := ST.1 ok
        have kc2 := f2.kk kc1 (by decide)
        have t2' : PT v2 (R 0) (R 1) (R 2) TT.2.1 := by
          rw [hX]
          exact t2
        refine cg_par (X := TT.2.1) (N := TT.2.2) (b := b) (o := o) (a := a) c2 t2' x52 x51 ru2 ml2' (by rw [insA_len]; omega) kc2 nlx nl2' (ao v2 F2) (fun v' f' => ar v' (F2.trans f')) (fun xn y41 z3 h3 v3 l4' c3 f3 t3 tx3 nl3 ml3 rm3 => ?_) (fun h3 v3 p c3 f3 rm3 i6 cp3 fc => ?_)
        · rw [← insA_app] at ml3
          have e3 := rm3
          exact q1 ok xn y41 z3 h3 v3 l4' c3 (F2.trans f3) t3 tx3 nl3 ml3 (((rm1.trans rm2').trans rm3).le (by omega) (by omega))
        · rw [← hO] at *
          exact q2 h3 v3 p c3 (F2.trans f3) (((rm1.trans rm2').trans rm3).le (by omega) (by omega)) i6 cp3 (by rw [ok]; exact fc)
      · show ((tLr 124 1 4 (tName (tAdv S))).1 = true → (tLr 124 1 4 (tName (tAdv S))).2.1 51 0 = -2) → ∀ h' v', CR h' v' → FL (R 0) (R 2) (R 9) (Xs (R 0) (R 2) lk (R 9)) v1 v' (fP (tLr 124 1 4 (tName (tAdv S))).1 (tLr 124 1 4 (tName (tAdv S))).2.1) (20 * ((tLr 124 1 4 (tName (tAdv S))).2.1 47 0 - tName (tAdv S) 47 0) + 8 * ((4 : Nat) : Int)) (200 * ((tLr 124 1 4 (tName (tAdv S))).2.1 47 0 - tName (tAdv S) 47 0) + 80 * ((4 : Nat) : Int)) → Q (Sum.inr (R 2)) h'
        rw [← hO, ← hX]
        intro bad h2 v2 c2 fl
        obtain ⟨a1, a2, a3, a4⟩ := fl
        refine flq h2 v2 _ _ _ c2 ⟨f1.trans a1, a2, rm1.trans a3, a4⟩ (by omega) (by omega) ?_
        unfold fP
        by_cases ok : TT.1 = true
        · have x51 := bad ok
          have x50 : TT.2.1 50 0 = 0 := ST.2.2.2.1.2.2.2 (by omega)
          have xn : ¬ tIsN TT.2.1 = true := fun q => (tIsN_iff.mp q).1 x50
          rw [if_pos ok]
          exact ⟨fun q => absurd ok q, fun _ _ => rfl, fun _ q => absurd q xn, fun _ q => absurd q xn⟩
        · rw [if_neg ok]
          exact ⟨fun _ => rfl, fun q => absurd q ok, fun q => absurd q ok, fun q => absurd q ok⟩
    · have Lr : tLr 124 1 4 (tName (tAdv S)) = (true, (tName (tAdv S), [])) := if_neg (by omega)
      rw [Lr] at hX hO
      have x50 : TT.2.1 50 0 = 0 := by rw [hX]; exact nn2.2.2.2 (by omega)
      have xn : ¬ tIsN TT.2.1 = true := fun q => (tIsN_iff.mp q).1 x50
      have fl := FL_wg (l := lk) t (Fw.refl (X := Xs (R 0) (R 2) lk (R 9))) rm0 ml (by omega) wg
      refine flq h1 v1 _ _ _ c1 fl (by omega) (by omega) ⟨fun q => absurd hO q, fun _ _ => ?_, fun _ q => absurd q xn, fun _ q => absurd q xn⟩
      rw [hX]
  · have E := tLs_x (sp := 124) (n := 0) (d := 4) (S := S) (Or.inr hn)
    refine ct_onea (n := 0) (kf := fun _ => kO U w (tAdv S 50 0) (tAdv S 49 0)) (pf := fun _ => tAdv S 49 0) c t ru ml (by omega) km (by omega) nlx kc rc (by decide) (nl0 _ _) rfl rfl (fun q => absurd q hn) (fun q => absurd q hn) (fun _ h1 v1 c1 wg => ?_)
    have fl := FL_wg (l := lk) t (Fw.refl (X := Xs (R 0) (R 2) lk (R 9))) rm0 ml (by omega) wg
    refine flq h1 v1 _ _ _ c1 fl (by omega) (by omega) ?_
    rw [E]
    exact ⟨fun _ => (fail_52 e52).symm, fun q => Bool.noConfusion q, fun q => Bool.noConfusion q, fun q => Bool.noConfusion q⟩
end CGN
