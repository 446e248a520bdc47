/-! COMPONENT, 40: a statement from its head on *-/
/-- a statement s in hand -/
def MD (R : Nat → Nat) (A : Nat → Int → Nat) (T : Nat → Nat) (w s p0 : Int) (v : vT) (S U : tSt) (o : Option Nat) : Prop :=
  GI R A T w s p0 v S U ∧ (PI w S U ∧ PR w U ∧ QV U ∧ (0 ≤ w ∧ w ≤ 1)) ∧ (1 ≤ S 55 0 ∧ S 52 0 = -1) ∧ AR v A U (U 22 s + 2).toNat (U 22 s) o ∧ As w U s ∧ U 22 s = S 56 (S 55 0 - 1) ∧ CH S U
/-- from the head of a statement (Ah, Th, vh, Uh) on; room c, d -/
def CX (R : Nat → Nat) (w b : Int) (Ah : Nat → Int → Nat) (Th : Nat → Nat) (vh : vT) (Uh : tSt) (A : Nat → Int → Nat) (T : Nat → Nat) (v : vT) (U : tSt) (c d : Int) : Prop :=
  MX R Th vh v c d ∧ AE w Uh Ah A Th T ∧ (∀ a, a < hN vh.1 → T a = Th a) ∧ FU w Uh U ∧ NWs w Uh U b
section HDS
variable {r : Nat} {h : am_H} {R : Nat → Nat} {A Ah A' : Nat → Int → Nat} {T Th T' : Nat → Nat} {w s b p0 c d c1 d1 : Int} {v vh v' : vT} {S S' U Uh U' : tSt} {o : Option Nat} {Q : am_O → am_H → Prop} {X : Nat → Nat → Prop}
theorem vnw_n {k n : Nat} : hN (vnw v k n).1 = hN v.1 + 1 := rfl
theorem vnw_s {k n : Nat} : hS (vnw v k n).1 = hS v.1 + n := rfl
theorem vFl_n {a k n : Nat} : hN (vFl v a k n).1 = hN v.1 + 2 := rfl
theorem vFl_s {a k n : Nat} : hS (vFl v a k n).1 = hS v.1 + 3 + n := rfl
theorem vpI_n {a k : Nat} {x : Int32} : hN (vpI v a k x).1 = hN v.1 := rfl
theorem vpI_s {a k : Nat} {x : Int32} : hS (vpI v a k x).1 = hS v.1 := rfl
def mdR (v u : vT) : Prop := hN u.1 ≤ hN v.1 + 9 ∧ hS v.1 ≤ hS u.1 ∧ hS u.1 ≤ hS v.1 + 40
theorem mdR_i {p : Prop} [Decidable p] {x y : vT} (h1 : mdR v x) (h2 : mdR v y) : mdR v (if p then x else y) := by
  split
  · exact h1
  · exact h2
theorem mdV_room : hN (mdV v S).1 ≤ hN v.1 + 9 ∧ hS v.1 ≤ hS (mdV v S).1 ∧ hS (mdV v S).1 ≤ hS v.1 + 40 := by
  show mdR v (mdV v S)
  unfold mdV mdO
  repeat' apply mdR_i
  all_goals
    unfold mdR
    simp only [vpI_n, vpI_s, vFl_n, vFl_s, vnw_n, vnw_s]
    omega
theorem MX.fw (m : MX R Th vh v c d) (f : Fw X v v') (x : ∀ a k, X a k → hN vh.1 ≤ a ∨ Xb (R 0) (R 2) Th a k) (rm : RM (R 9) v v' c1 d1) : MX R Th vh v' (c + c1) (d + d1) := ⟨m.1.tr2 f x, m.2.trans rm⟩
theorem MX.q (m : MX R Th vh v c d) (f : Fw (Xq (R 0) (R 2)) v v') (k9 : hK v.1 (R 9) = 4) (b1 : (hN v'.1 : Int) ≤ hN v.1 + c1) (s0 : hS v.1 ≤ hS v'.1) (b2 : (hS v'.1 : Int) ≤ hS v.1 + d1) : MX R Th vh v' (c + c1) (d + d1) := by
  have y := MX_q (R := R) (T := Th) f k9 b1 s0 b2
  refine m.fw f (fun a k z => Or.inr ?_) y.2
  rcases z with z | z
  · exact Or.inl ⟨z.1, by omega⟩
  · exact Or.inr (Or.inl z)
theorem st_head (kk : Nat) (cr : CR h v) (hd : HD R A T w p0 v S U o) (ne : S 51 0 ≠ 125)
    (q1 : tBegins S = true → U 19 w ≠ 120 → ∀ h' v0 v', CR h' v' → Fw (fun c k => (c = hN v0.1 ∧ k ≤ 2) ∨ (c = R 8 ∧ k = 99)) (mdV v0 S) v' → hN v.1 ≤ hN v0.1 → MD R (Aex A (w * 120 + U 19 w) (hN v0.1) (hN v0.1 + 1)) (Tnw v0 v' T kk) w (w * 120 + U 19 w) p0 v' S (tE0 w (w * 120 + U 19 w) (S 56 (S 55 0 - 1)) S U) o →
      CX R w (S 56 (S 55 0 - 1)) A T v U (Aex A (w * 120 + U 19 w) (hN v0.1) (hN v0.1 + 1)) (Tnw v0 v' T kk) v' (tE0 w (w * 120 + U 19 w) (S 56 (S 55 0 - 1)) S U) 20 340 →
      Rn r 175 133 [some (vR (some (R 0))), some (vR o), some (vI (bI (tBegins S = true))), some (vR (some (hN v0.1))), none, none, none, none, none, none, none, none, none] [] h' Q)
    (q2 : ∀ h' v' p, CR h' v' → WX R T v v' S (20 - 2 * S 55 0) p → doom w (S, U) p → Q (Sum.inr (R 2)) h') : Cl r 175 [vR (some (R 0)), vR o] h Q := by
  have ab := hd.ab
  obtain ⟨g, ⟨hP, pr, qv, w0⟩, ⟨d1, s52⟩, ar, ch⟩ := hd
  have n19 := hP.2.2.2.2.2.1
  have n9 := hP.2.2.2.2.1
  have d8 := hP.1.2.2.2.2.2.2.2
  have h9 : 1 ≤ U 9 w := pr.2.2 (by have := ab.1; have := ab.2; omega)
  rw [eX1_statement]
  refine st_mid (b := S 56 (S 55 0 - 1)) kk g (fun z => by have := z.1; omega) pr.1 qv w0 n19 n9 ⟨S 55 0 - 1, by omega, by omega, rfl⟩ cr (fun bg nn h' v0 v' c' f0 n0 s0 s1 fm b1 b2 b3 G => ?_) (fun nb h' v' c' wg => ?_)
  · generalize hs : w * 120 + U 19 w = s at *
    generalize hb : S 56 (S 55 0 - 1) = b at *
    have fu : FU w U (tE0 w s b S U) := tE0_fu (by omega)
    obtain ⟨v19, v20, v21, v22, v23, v33, v30⟩ := tE0_v (w := w) (s := s) (b := b) (S := S) (U := U)
    have F : Fw (fun c k => c = R 8 ∧ k = 99) v v' := ((f0.trans mdV_f).mono (fun _ _ z => z.elim)).tr2 fm (fun c k z => by
      rcases z with z | z
      · exact Or.inl (by have := f0.1; omega)
      · exact Or.inr z)
    have k8 : hK v.1 (R 8) = 4 := g.2.2.2.2.2.1.1.2.1
    have t8 : T (R 8) = 3 := g.2.2.2.2.2.1.2.2.2.2.2.2.1.1
    have k9 := g.k9
    have n89 : R 8 ≠ R 9 := g.2.2.2.2.2.1.2.2.2.2.2.2.2.1.1
    have tz := g.2.2.2.2.1.2
    have ht : ∀ a, a < hN v.1 → Tnw v0 v' T kk a = T a := fun a ha => Tnw_o (by have := f0.1; omega)
    have htn : ∀ a, T a ≠ 0 → T a ≠ 4 → Tnw v0 v' T kk a = T a := fun a h0 _ => ht a (Nat.lt_of_not_le (fun z => h0 (tz a z)))
    have ae := Aex_ae (A := A) (T := T) (a := hN v0.1) (l5 := hN v0.1 + 1) (hs.symm) htn
    obtain ⟨m1, m2, m3⟩ := mdV_room (v := v0) (S := S)
    have cp : vCp v' (R 9) = vCp v (R 9) := (F.cc (hK_lt k9 (by decide)) (fun z => n89 z.1.symm)).2.2.1
    have hb' : 1024 * w ≤ b ∧ b < 1024 * w + U 40 w := ⟨by have := ab.1; omega, by have := ab.2; omega⟩
    have ent : ∀ f, f = 9 ∨ f = 40 → tE0 w s b S U f = U f := fun f hf => tE0_o (by rcases hf with rfl | rfl <;> decide)
    have P1 : PI w S (tE0 w s b S U) := by
      have := PI_enter (b := b) hP (by omega) hb'
      rw [hs] at this
      exact PI_up this rfl
    have R1 : PR w (tE0 w s b S U) := by
      have := PQ_ent (S := S) (b := b) (x := 0) pr.1 ab h9 (by omega) n19.1 w0.1
      rw [hs] at this
      exact ⟨this, by rw [ent 40 (by decide)]; exact pr.2.1, by rw [ent 40 (by decide), ent 9 (by decide)]; exact pr.2.2⟩
    have Q1 : QV (tE0 w s b S U) := QV_x (QV_enter qv hP.1 (by omega) (by have := tw_bound hP; omega) (by omega)) rfl rfl (by omega) (by omega)
    have AR1 : AR v' (Aex A s (hN v0.1) (hN v0.1 + 1)) (tE0 w s b S U) (b + 2).toNat b o := by
      refine AR_fu fu pr.1 qv _ _ _ ab (AR_ae ae pr.1 qv _ _ _ ab (AR_fw F (fun a k z => ?_) _ _ _ ar))
      rw [z.1, k8]
      exact ⟨by decide, fun y => absurd y (by decide), fun _ => by decide⟩
    refine q1 bg nn h' v0 v' c' fm f0.1 ⟨G, ⟨P1, R1, Q1, w0⟩, ⟨d1, s52⟩, by rw [v22]; exact AR1, ⟨by omega, by omega⟩, by rw [v22, hb], CH_fu w0.1 fu hP pr d1 rfl (fun _ _ => rfl) ch⟩ ⟨⟨F.mono (fun a k z => ?_), by have := F.1; omega, by omega, by omega, by rw [cp]; omega, by rw [cp]; exact Nat.le_refl _⟩, ae, ht, fu, ?_⟩
    · exact Or.inr (Or.inr (Or.inl ⟨z.2, by rw [z.1]; exact Or.inr t8⟩))
    · refine ⟨by omega, ?_, fun k hk hk2 hk3 => ?_⟩
      · rw [hs]
        exact v22
      · exact absurd hk3 (fun z => z (by have := hk.2; have := hk.1; unfold As at hk2; omega))
  · refine q2 h' v' _ c' (Wg_X g qv wg (by omega) (by omega) g.1.le) ?_
    refine doom_step s52 (Or.inl (by omega)) ?_
    unfold tStep
    rw [if_neg (by omega), if_neg ne]
    unfold tStmt
    rw [if_neg nb]
    exact doom_fail s52 hP.1
/-- a step of the twin at a word that begins a statement -/
theorem step_word (d1 : 1 ≤ S 55 0) (ne : S 51 0 ≠ 125) (bg : tBegins S = true) (nn : U 19 w ≠ 120) (n123 : S 51 0 ≠ 123) : tStep w S U = tStmt2 w (w * 120 + U 19 w) (S 50 0) (tAdv S) (tEnter w (w * 120 + U 19 w) (S 56 (S 55 0 - 1)) S U) := by
  unfold tStep
  rw [if_neg (by omega), if_neg ne]
  unfold tStmt
  rw [if_pos ⟨bg, nn⟩, if_neg n123]
end HDS
