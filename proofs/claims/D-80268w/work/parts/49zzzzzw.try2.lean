/-! COMPONENT, 64: try: the names behind it *-/
/-- names and their places in two lists -/
def TN (v : vT) (l5 l6 : Nat) (N : List (Int × Int)) : Prop := (hK v.1 l5 = 4 ∧ hK v.1 l6 = 4) ∧ ((vLs v l5).length = N.length ∧ (vLs v l6).length = N.length) ∧ (∀ i, i < N.length → TXn v ((vLs v l5).getD i none) (N.getD i (0, 0)).1) ∧ ∀ i, i < N.length → ∃ e, (vLs v l6).getD i none = some e ∧ isIg v e (N.getD i (0, 0)).2
/-- what reading such names changes -/
def XY (R : Nat → Nat) (l5 l6 : Nat) (b k : Nat) : Prop := Xq (R 0) (R 2) b k ∨ ((b = l5 ∨ b = l6) ∧ k = 99)
section TR2
variable {r a l5 l6 : Nat} {h : am_H} {R : Nat → Nat} {A Ah : Nat → Int → Nat} {T Th : Nat → Nat} {w s b0 p0 c d x p : Int} {v v' vh : vT} {S S' Uh U : tSt} {o : Option Nat} {N : List (Int × Int)} {Q : am_O → am_H → Prop} {X : Nat → Nat → Prop}
theorem TN_fw (f : Fw X v v') (hx : ∀ b k, X b k → (k = 99 → b ≠ l5 ∧ b ≠ l6) ∧ hK v.1 b ≠ 8 ∧ hK v.1 b ≠ 9 ∧ (k = 99 → hK v.1 b ≠ 10)) (t : TN v l5 l6 N) : TN v' l5 l6 N := by
  obtain ⟨⟨k5, k6⟩, ⟨n5, n6⟩, q5, q6⟩ := t
  have e5 : vLs v' l5 = vLs v l5 := (f.cc (hK_lt k5 (by decide)) (fun y => ((hx _ _ y).1 rfl).1 rfl)).1
  have e6 : vLs v' l6 = vLs v l6 := (f.cc (hK_lt k6 (by decide)) (fun y => ((hx _ _ y).1 rfl).2 rfl)).1
  refine ⟨⟨f.kk k5 (by decide), f.kk k6 (by decide)⟩, by rw [e5, e6]; exact ⟨n5, n6⟩, fun i hi => ?_, fun i hi => ?_⟩
  · rw [e5]
    exact TXn_0 f (fun b y => (hx _ _ y).2.2.2 rfl) (q5 i hi)
  · obtain ⟨e, e1, e2, e3⟩ := q6 i hi
    have lt : e < hN v.1 := by rcases e2 with y | y <;> exact hK_lt y (by decide)
    refine ⟨e, by rw [e6]; exact e1, ?_, ?_⟩
    · rw [(f.2.2 e lt).1]
      exact e2
    · rw [(f.ff (k := 0) lt (fun y => by have := hx _ _ y; omega)).1]
      exact e3
/-- tokens and lists of its own change, the statement stays in hand -/
theorem MD_x (md : MD R A T w s p0 v S U o) (f : Fw X v v') (hx : ∀ b k, X b k → Xq (R 0) (R 2) b k ∨ (T b = 4 ∧ k = 99 ∧ hK v.1 b = 4)) (t' : PT v' (R 0) (R 1) (R 2) S') (tks : Tks S S') (x52 : S' 52 0 = -1) (x47 : S 47 0 ≤ S' 47 0) : MD R A T w s p0 v' S' U o := by
  obtain ⟨g, ⟨hP, pr, qv, w0⟩, ⟨d1, s52⟩, ar, hsA, e22, ch⟩ := md
  have h55 : S' 55 = S 55 := tks.2.2.2.1 55 (by decide) (by decide) (by decide) (by decide) (by decide) (by decide) (by decide)
  have h56 : S' 56 = S 56 := tks.2.2.2.1 56 (by decide) (by decide) (by decide) (by decide) (by decide) (by decide) (by decide)
  have k0 := g.1.w0.1
  have k2 := g.1.w0.2.1
  have kq : ∀ b k, X b k → ((hK v.1 b = 2 ∨ hK v.1 b = 3) ∧ (3 ≤ k ∧ k ≤ 6 ∨ k = 14)) ∨ (T b = 4 ∧ k = 99 ∧ hK v.1 b = 4) := fun b k y => by
    rcases hx b k y with (z | z) | z
    · exact Or.inl ⟨Or.inl (by rw [z.1]; exact k0), z.2⟩
    · exact Or.inl ⟨Or.inr (by rw [z.1]; exact k2), by omega⟩
    · exact Or.inr z
  refine ⟨GI_x (z := hN v.1) g pr qv w0 f (fun b k y _ => ?_) (Or.inr (Nat.le_refl _)) (fun k y => ?_) (fun k hk y => ?_) (fun b y => ?_) (fun b k y hk => ?_) t' x47 h55 h56 (TG_fw f g.2.2.2.2.1) (fun _ _ _ => rfl), ⟨PI_tks hP tks, pr, qv, w0⟩, ⟨by rw [h55]; exact d1, x52⟩, AR_fw f (fun b k y => ?_) _ _ _ ar, hsA, by rw [h55, h56]; exact e22, ?_⟩
  · rcases kq b k y with z | z
    · omega
    · exact Or.inr (Or.inr (Or.inl ⟨z.2.1, by omega⟩))
  · have l1 : hK v.1 (hN v.1) = 0 := hK_ge (Nat.le_refl _)
    rcases kq _ k y with z | z
    · omega
    · omega
  · rcases kq _ k y with z | z
    · omega
    · omega
  · rcases kq _ _ y with z | z
    · omega
    · omega
  · rcases kq _ _ y with z | z
    · intro q
      have := g.2.2.2.2.1.1 b (by omega) (by omega) (by omega)
      omega
    · omega
  · rcases kq _ _ y with z | z
    · exact ⟨by omega, by omega, by omega⟩
    · exact ⟨by omega, by omega, by omega⟩
  · unfold CH
    rw [h55, h56]
    exact ch
theorem CX_x {n m : Int} (cx : CX R w b0 Ah Th vh Uh A T v U c d) (f : Fw X v v') (hx : ∀ b k, X b k → Xq (R 0) (R 2) b k ∨ (hN vh.1 ≤ b ∧ k = 99)) (rm : RM (R 9) v v' n m) : CX R w b0 Ah Th vh Uh A T v' U (c + n) (d + m) := by
  refine ⟨cx.1.fw f (fun b k y => ?_) rm, cx.2⟩
  rcases hx b k y with (z | z) | z
  · exact Or.inr (Or.inl ⟨z.1, by omega⟩)
  · exact Or.inr (Or.inr (Or.inl z))
  · exact Or.inl z.1
theorem getD_snoc_lt {α : Type} {L : List α} {y z : α} {i : Nat} (h : i < L.length) : (L ++ [y]).getD i z = L.getD i z := by
  rw [List.getD_eq_getElem?_getD, List.getElem?_append_left h, ← List.getD_eq_getElem?_getD]
theorem getD_snoc_eq {α : Type} {L : List α} {y z : α} {i : Nat} (h : i = L.length) : (L ++ [y]).getD i z = y := by
  rw [List.getD_eq_getElem?_getD, List.getElem?_append_right (by omega), h, Nat.sub_self]
  rfl
theorem tr_loop (ka : ∀ v1 : vT, Fw (XY R l5 l6) v v1 → hK v1.1 a = 36 ∧ hR v1.1 a 5 = some l5 ∧ hR v1.1 a 6 = some l6) (n56 : l5 ≠ l6) (t5 : T l5 = 4) (t6 : T l6 = 4) (h5 : hN vh.1 ≤ l5) (h6 : hN vh.1 ≤ l6) : ∀ (dd : Nat) (pre : List (Int × Int)) (S : tSt) (h : am_H) (v1 : vT) (c d : Int), pre.length ≤ 4 → pre.length + dd = 5 → CR h v1 → Fw (XY R l5 l6) v v1 → MD R A T w s p0 v1 S U o → CX R w b0 Ah Th vh Uh A T v1 U c d → TN v1 l5 l6 pre →
    ((tLs 44 pre.length dd S).1 = true → (tLs 44 pre.length dd S).2.1 51 0 ≠ -2 → ∀ h' v', CR h' v' → Fw (XY R l5 l6) v v' → MD R A T w s p0 v' (tLs 44 pre.length dd S).2.1 U o → CX R w b0 Ah Th vh Uh A T v' U (c + 27 * ((tLs 44 pre.length dd S).2.1 47 0 - S 47 0)) (d + 280 * ((tLs 44 pre.length dd S).2.1 47 0 - S 47 0)) → TN v' l5 l6 (pre ++ (tLs 44 pre.length dd S).2.2) → Rn r 225 78 [some (vR (some (R 0))), some (vR (some a)), some (vR o), none] [] h' Q) →
    (∀ h' v' p, CR h' v' → MX R Th vh v' (c + 27 * (S 48 0 - S 47 0) + 10) (d + 280 * (S 48 0 - S 47 0) + 100) → hI v'.1 (R 2) 6 = iI p → vCp v' (R 9) ≤ 6000 → p = fP (tLs 44 pre.length dd S).1 (tLs 44 pre.length dd S).2.1 → ((tLs 44 pre.length dd S).1 = true → (tLs 44 pre.length dd S).2.1 51 0 = -2) → Q (Sum.inr (R 2)) h') →
    Rn r 225 18 [some (vR (some (R 0))), some (vR (some a)), some (vR o), none] [] h Q := by
  intro dd
  induction dd with
  | zero => intro pre S h v1 c d h4 h5; omega
  | succ dd ih =>
    intro pre S h v1 c d hp hd cr F0 md cx tn q1 q2
    obtain ⟨kk1, kk2, kk3⟩ := ka v1 F0
    have k0 := md.1.1.w0.1
    have k2 := md.1.1.w0.2.1
    have si := md.1.1.2.1
    have tk := md.1.1.2.2.1
    have s52 := md.2.2.1.2
    have si1 := SI_adv si
    have tk1 := TK_adv si.1
    have a47 := tAdv_47 si
    have le := md.1.1.le
    have e481 : tAdv S 48 0 = S 48 0 := by rw [tAdv_55.2.2.1]
    have e521 : tAdv S 52 0 = -1 := by rw [tAdv_52]; exact s52
    have le1 : tAdv S 47 0 ≤ S 48 0 := by have := si1.1.2.1; omega
    have cpm := ML_cp md.1 md.2.1.2.2.1
    have k9 := md.1.k9
    have tf1 := fail_52 e521
    have wg : ∀ {vx : vT} {c1 d1 : Int} {u t : Nat} {Sx : tSt} h' v' p, GI R A T w s p0 vx Sx U → MX R Th vh vx c1 d1 → CR h' v' → Wg (R 0) (R 2) u t vx v' p → c1 + u ≤ c + 27 * (S 48 0 - S 47 0) + 10 → d1 + t ≤ d + 280 * (S 48 0 - S 47 0) + 100 → p = fP (tLs 44 pre.length (dd + 1) S).1 (tLs 44 pre.length (dd + 1) S).2.1 → ((tLs 44 pre.length (dd + 1) S).1 = true → (tLs 44 pre.length (dd + 1) S).2.1 51 0 = -2) → Q (Sum.inr (R 2)) h' := fun {vx c1 d1 u t Sx} h' v' p gx m0 c' wg h1 h2 e1 e2 => by
      obtain ⟨w1, w2, w3, w4, w5⟩ := wg
      have m1 := m0.q w1 gx.k9 (c1 := u) (d1 := t) (by omega) w4 (by omega)
      have cp1 : vCp v' (R 9) = vCp vx (R 9) := (w1.cc (hK_lt gx.k9 (by decide)) (fun y => by rcases y with y | y <;> omega)).2.2.1
      have := ML_cp gx md.2.1.2.2.1
      exact q2 h' v' p c' (m1.le (by omega) (by omega)) w2 (by omega) e1 e2
    rw [sX1_tried_18, sX1_tried_19 (cr.kk k0 (by decide))]
    refine t_next cr md.1.1 (fun z h1 v2 c1 f1 t1 n1 s0 s1 _ => ?_) (fun z h1 v2 c1 wg1 => ?_)
    · have md1 := MD_q md f1 t1
      have F1 : Fw (XY R l5 l6) v v2 := F0.trans (f1.mono (fun b k y => Or.inl y))
      obtain ⟨kk4, kk5, kk6⟩ := ka v2 F1
      have xqn : ∀ b k, Xq (R 0) (R 2) b k → (hK v1.1 b = 2 ∨ hK v1.1 b = 3) ∧ k ≠ 99 := fun b k y => by
        rcases y with y | y
        · exact ⟨Or.inl (by rw [y.1]; exact k0), by omega⟩
        · exact ⟨Or.inr (by rw [y.1]; exact k2), by omega⟩
      have tn1 := TN_fw f1 (fun b k y => by have := xqn b k y; exact ⟨fun e => absurd e this.2, by omega, by omega, fun e => absurd e this.2⟩) tn
      have k01 := md1.1.1.w0.1
      have k21 := md1.1.1.w0.2.1
      have k51 := tn1.1.1
      have k61 := tn1.1.2
      have m1 := cx.1.q f1 k9 n1 s0 s1
      have len5 := tn1.2.1.1
      have len6 := tn1.2.1.2
      have cx1 : CX R w b0 Ah Th vh Uh A T v2 U _ _ := ⟨m1, cx.2⟩
      have key : Rn r 225 39 [some (vR (some (R 0))), some (vR (some a)), some (vR o), none] [vI (bI (pre.length ≠ 4)), vR (some (R 0))] h1 Q := by
        rw [sX1_tried_39 (c1.kk k01 (by decide))]
        refine t_need c1 md1.1.1 (fun p4 => ?_) (fun p4 h2 v3 c2 wg2 => ?_)
        · rw [Kt_0, sX1_tried_42, sX1_tried_43 (c1.kk kk4 (by decide)), c1.rr kk4 rfl, kk5, sX1_tried_46, sX1_tried_47 (c1.kk k01 (by decide))]
          refine t_name c1 md1.1.1 (fun n z2 h2 v3 nm c2 f2 t2 nA n2 s02 s2 => ?_) (fun n z2 h2 v3 c2 wg2 => ?_) (fun n h2 v3 c2 wg2 => ?_)
          · obtain ⟨f53, f54, f47, f49, f50, f51⟩ := tName_g n
            obtain ⟨nn1, nn2, n55, n56', n48, n52, n47⟩ := nm_name si1 tk1 n
            have tk2 : tAdv S 49 0 < tAdv S 47 0 := tk1.2.2.1 (fun q => (tIsN_iff.mp n).1 (tk1.2.2.2 (by omega)))
            have c47 := tAdv_47 si1
            have k02 := f2.kk k01 (by decide)
            have xqm : ∀ b k, Xq (R 0) (R 2) b k → (hK v2.1 b = 2 ∨ hK v2.1 b = 3) ∧ k ≠ 99 := fun b k y => by
              rcases y with y | y
              · exact ⟨Or.inl (by rw [y.1]; exact k01), by omega⟩
              · exact ⟨Or.inr (by rw [y.1]; exact k21), by omega⟩
            have tn2 := TN_fw f2 (fun b k y => by have := xqm b k y; exact ⟨fun e => absurd e this.2, by omega, by omega, fun e => absurd e this.2⟩) tn1
            have F2 : Fw (XY R l5 l6) v v3 := F1.trans (f2.mono (fun b k y => Or.inl y))
            have k52 := tn2.1.1
            have k62 := tn2.1.2
            rw [Kt_v, sX1_tried_50 (c2.kk k52 (by decide))]
            refine v_add c2 k52 (z := some nm) ⟨by rw [nA.1]; decide, by rw [nA.1]; decide⟩ (by rw [tn2.2.1.1]; omega) (fun h3 n' s' c' c3 gw => ?_)
            obtain ⟨w1, w2, w3, w4, w5, w6, w7, w8⟩ := grw_b gw (c2.cp k52)
            rw [tn2.2.1.1] at w7
            have f3 : Fw (fun b k => b = l5 ∧ k = 99) v3 (vsL (vbm v3 n' s') l5 (vLs v3 l5 ++ [some nm]) c') := (Fw.refl.bm w1).sL (Or.inr ⟨rfl, rfl⟩)
            have ls3 : vLs (vsL (vbm v3 n' s') l5 (vLs v3 l5 ++ [some nm]) c') l5 = vLs v3 l5 ++ [some nm] := by rw [vLs_sL, if_pos rfl]
            have n3' : hN (vsL (vbm v3 n' s') l5 (vLs v3 l5 ++ [some nm]) c').1 = n' := rfl
            have s3' : hS (vsL (vbm v3 n' s') l5 (vLs v3 l5 ++ [some nm]) c').1 = s' := rfl
            generalize (vsL (vbm v3 n' s') l5 (vLs v3 l5 ++ [some nm]) c') = v4 at *
            have F3 : Fw (XY R l5 l6) v v4 := F2.trans (f3.mono (fun b k y => Or.inr ⟨Or.inl y.1, y.2⟩))
            obtain ⟨kk7, kk8, kk9⟩ := ka v4 F3
            have k03 := f3.kk k02 (by decide)
            have k63 := f3.kk k62 (by decide)
            have ls6 : vLs v4 l6 = vLs v3 l6 := (f3.cc (hK_lt k62 (by decide)) (fun y => n56 y.1.symm)).1
            have i14 : hI v4.1 (R 0) 14 = iI (tAdv S 49 0) := by rw [(f3.ff (k := 14) (hK_lt k02 (by decide)) (fun y => by omega)).1, nA.2.2.2, f54]
            have s49 := si1.2.1
            rw [Kt_v, sX1_tried_53, sX1_tried_54, sX1_tried_55 (c3.kk kk7 (by decide)), c3.rr kk7 rfl, kk9, sX1_tried_58, sX1_tried_59 (c3.kk k03 (by decide)), c3.ii k03 rfl, i14, sX1_tried_62]
            refine vi_add (l := l6) (K3 := Kt r 225 68 [some (vR (some (R 0))), some (vR (some a)), some (vR o), none] [] Q) c3 k63 (by rw [ls6, tn2.2.1.2]; omega) (by omega) (by omega) (fun b h4 y ⟨v5, c4, f4⟩ => ?_) (fun h4 v5 e4 c4 f4 l4 ig4 n4 s04 s4 => ?_)
            · rw [Kt_v, sX1_tried_65 (c4.kk (f4.kk k63 (by decide)) (by decide))]
              exact y
            · rw [ls6, tn2.2.1.2] at s4
              rw [ls6] at l4
              have f34 : Fw (fun b k => (b = l5 ∨ b = l6) ∧ k = 99) v3 v5 := (f3.mono (fun b k y => ⟨Or.inl y.1, y.2⟩)).trans (f4.mono (fun b k y => ⟨Or.inr y.1, y.2⟩))
              have F4 : Fw (XY R l5 l6) v v5 := F2.trans (f34.mono (fun b k y => Or.inr y))
              have kl : ∀ b k, (b = l5 ∨ b = l6) ∧ k = 99 → hK v3.1 b = 4 ∧ T b = 4 ∧ hN vh.1 ≤ b := fun b k y => by
                rcases y.1 with z | z
                · rw [z]; exact ⟨k52, t5, h5⟩
                · rw [z]; exact ⟨k62, t6, h6⟩
              have t4 : PT v5 (R 0) (R 1) (R 2) (tName (tAdv S)) := PT_fw f34 t2 (fun k hk y => by omega) (fun k y => by have := t2.w0.2.2; rw [(kl _ _ y).1] at this; exact absurd this (by decide)) (fun b y => by rw [(kl _ _ y).1]; decide)
              have md2 : MD R A T w s p0 v5 (tName (tAdv S)) U o := MD_x (X := XY R l5 l6) md1 ((f2.mono (fun b k y => Or.inl y)).trans (f34.mono (fun b k y => Or.inr y))) (fun b k y => by
                rcases y with y | y
                · exact Or.inl y
                · refine Or.inr ⟨(kl b k y).2.1, y.2, ?_⟩
                  rcases y.1 with z | z
                  · rw [z]; exact k51
                  · rw [z]; exact k61) t4 (Tks_name si1 tk1) (by rw [n52]; exact e521) n47
              have t93 := md1.1.2.2.2.2.2.1.2.2.2.2.2.2.1.2.1
              have k92 : hK v3.1 (R 9) = 4 := f2.kk md1.1.k9 (by decide)
              have cp5 : vCp v5 (R 9) = vCp v2 (R 9) := by
                rw [(f34.cc (hK_lt k92 (by decide)) (fun y => by have := (kl _ _ y).2.1; omega)).2.2.1, (f2.cc (hK_lt md1.1.k9 (by decide)) (fun y => (xqm _ _ y).2 rfl)).2.2.1]
              have rm : RM (R 9) v2 v5 (20 * (tName (tAdv S) 47 0 - tAdv S 47 0) + 7) (200 * (tName (tAdv S) 47 0 - tAdv S 47 0) + 80) := by
                have g1 := f2.1
                have g2 := f34.1
                exact ⟨by omega, by omega, by omega, by rw [cp5]; omega, by rw [cp5]; exact Nat.le_refl _⟩
              have cx2 := CX_x (X := XY R l5 l6) cx1 ((f2.mono (fun b k y => Or.inl y)).trans (f34.mono (fun b k y => Or.inr y))) (fun b k y => by
                rcases y with y | y
                · exact Or.inl y
                · exact Or.inr ⟨(kl b k y).2.2, y.2⟩) rm
              have tn3 : TN v5 l5 l6 (pre ++ [(tName (tAdv S) 53 0, tName (tAdv S) 54 0)]) := by
                have e5 : vLs v5 l5 = vLs v3 l5 ++ [some nm] := by rw [(f4.cc (hK_lt (f3.kk k52 (by decide)) (by decide)) (fun y => n56 y.1)).1]; exact ls3
                refine ⟨⟨f34.kk k52 (by decide), f34.kk k62 (by decide)⟩, ⟨by rw [e5, List.length_append, List.length_append, tn2.2.1.1]; rfl, by rw [l4, List.length_append, List.length_append, tn2.2.1.2]; rfl⟩, fun i hi => ?_, fun i hi => ?_⟩
                · rw [List.length_append, List.length_singleton] at hi
                  rw [e5]
                  by_cases q : i < pre.length
                  · rw [getD_snoc_lt (by rw [tn2.2.1.1]; exact q), getD_snoc_lt q]
                    exact TXn_0 f34 (fun b y => by rw [(kl _ _ y).1]; decide) (tn2.2.2.1 i q)
                  · rw [getD_snoc_eq (by rw [tn2.2.1.1]; omega), getD_snoc_eq (by omega)]
                    refine TXn_0 f34 (fun b y => by rw [(kl _ _ y).1]; decide) ⟨nm, rfl, nA.1, nA.2.1, nA.2.2.1⟩
                · rw [List.length_append, List.length_singleton] at hi
                  rw [l4]
                  by_cases q : i < pre.length
                  · obtain ⟨e, e1, e2, e3⟩ := tn2.2.2.2 i q
                    have lt : e < hN v3.1 := by rcases e2 with y | y <;> exact hK_lt y (by decide)
                    refine ⟨e, by rw [getD_snoc_lt (by rw [tn2.2.1.2]; exact q)]; exact e1, ?_, ?_⟩
                    · rw [(f34.2.2 e lt).1]
                      exact e2
                    · rw [getD_snoc_lt q, (f34.ff (k := 0) lt (fun y => by omega)).1]
                      exact e3
                  · refine ⟨e4, by rw [getD_snoc_eq (by rw [tn2.2.1.2]; omega)], ?_⟩
                    rw [getD_snoc_eq (by omega)]
                    show isIg v5 e4 (tName (tAdv S) 54 0)
                    rw [f54]
                    exact ig4
              have k05 := md2.1.1.w0.1
              have s51' := md2.1.1.2.1.2.2.2.1
              have e6 : hI h4 (R 0) 6 = iI (tName (tAdv S) 51 0) := by rw [c4.ii k05 rfl]; exact md2.1.1.1.2.2.2.1
              have i44 : iI (tName (tAdv S) 51 0) = iI 44 ↔ tName (tAdv S) 51 0 = 44 := iI_eq (by omega) (by omega) (by omega) (by omega)
              have x48 : tName (tAdv S) 48 0 = S 48 0 := by rw [n48]; exact e481
              rw [Kt_v, sX1_tried_68, sX1_tried_69, sX1_tried_70 (c4.kk k05 (by decide)), e6, sX1_tried_73, sX1_tried_75, i_44]
              rw [tLs, if_neg p4, if_pos n] at q1 q2
              by_cases cm : tName (tAdv S) 51 0 = 44
              · rw [if_pos cm] at q1 q2
                rw [if_pos (i44.mpr cm)]
                have i8 := (tLs_st (sp := 44) dd (pre.length + 1) (tName (tAdv S)) (by omega) (by omega) nn1 nn2 (by rw [n52]; exact e521)).2.2.2.2.2.2.2.1
                refine ih (pre ++ [(tName (tAdv S) 53 0, tName (tAdv S) 54 0)]) (tName (tAdv S)) h4 v5 _ _ (by rw [List.length_append, List.length_singleton]; omega) (by rw [List.length_append, List.length_singleton]; omega) c4 F4 md2 cx2 tn3 ?_ ?_
                · rw [List.length_append, List.length_singleton]
                  intro ok n51 h' v' c' F' md' cx' tn'
                  rw [List.append_assoc] at tn'
                  exact q1 ok n51 h' v' c' F' md' ⟨cx'.1.le (by show _ ≤ _ + 27 * ((tLs 44 (pre.length + 1) dd (tName (tAdv S))).2.1 47 0 - S 47 0); omega) (by show _ ≤ _ + 280 * ((tLs 44 (pre.length + 1) dd (tName (tAdv S))).2.1 47 0 - S 47 0); omega), cx'.2⟩ tn'
                · rw [List.length_append, List.length_singleton]
                  intro h' v' p c' m' i6 cp e1 e2
                  exact q2 h' v' p c' (m'.le (by omega) (by omega)) i6 cp e1 e2
              · rw [if_neg cm] at q1 q2
                rw [if_neg (fun y => cm (i44.mp y))]
                exact q1 rfl z2 h4 v5 c4 F4 md2 ⟨cx2.1.le (by show _ ≤ _ + 27 * (tName (tAdv S) 47 0 - S 47 0); omega) (by show _ ≤ _ + 280 * (tName (tAdv S) 47 0 - S 47 0); omega), cx2.2⟩ tn3
          · obtain ⟨nn1, nn2, n55, n56', n48, n52, n47⟩ := nm_name si1 tk1 n
            rw [Kt_x]
            refine wg h2 v3 _ md1.1 m1 c2 wg2 (by omega) (by omega) ?_ (fun _ => ?_)
            · rw [tLs, if_neg p4, if_pos n, if_neg (by omega)]
              rfl
            · rw [tLs, if_neg p4, if_pos n, if_neg (by omega)]
              exact z2
          · rw [Kt_x]
            refine wg h2 v3 _ md1.1 m1 c2 wg2 (by omega) (by omega) ?_ (fun y => ?_)
            · rw [tLs, if_neg p4, if_neg n]
              exact tf1.symm
            · rw [tLs, if_neg p4, if_neg n] at y
              exact Bool.noConfusion y
        · have p4' : pre.length = 4 := Classical.byContradiction p4
          rw [Kt_x]
          refine wg h2 v3 _ md1.1 m1 c2 wg2 (by omega) (by omega) ?_ (fun y => ?_)
          · rw [tLs, if_pos p4']
            exact tf1.symm
          · rw [tLs, if_pos p4'] at y
            exact Bool.noConfusion y
      rw [Kt_0, sX1_tried_22, sX1_tried_23, sX1_tried_24 (c1.kk kk4 (by decide)), c1.rr kk4 rfl, kk5, sX1_tried_27 (c1.kk k51 (by decide)), v_size c1 k51, Kt_v, sX1_tried_30, sX1_tried_31, i_4, len5]
      unfold bI at key
      by_cases p4 : pre.length = 4
      · rw [if_pos (by rw [iI_le (by omega) (by omega) (by omega) (by omega)]; omega), sX1_tried_38]
        rw [if_neg (c := pre.length ≠ 4) (fun y => y p4)] at key
        exact key
      · rw [if_neg (by rw [iI_le (by omega) (by omega) (by omega) (by omega)]; omega), sX1_tried_34, sX1_tried_35]
        rw [if_pos (c := pre.length ≠ 4) p4] at key
        exact key
    · rw [Kt_x]
      have s50 : tAdv S 50 0 = 0 := tk1.2.2.2 (by omega)
      have nn : ¬ tIsN (tAdv S) = true := fun y => (tIsN_iff.mp y).1 s50
      have tl : tLs 44 pre.length (dd + 1) S = (false, (tFail (tAdv S), [])) := by
        rw [tLs]
        by_cases q : pre.length = 4
        · rw [if_pos q]
        · rw [if_neg q, if_neg nn]
      refine wg h1 v2 _ md.1 cx.1 c1 wg1 (by omega) (by omega) ?_ (fun y => ?_)
      · rw [tl]
        exact tf1.symm
      · rw [tl] at y
        exact Bool.noConfusion y
end TR2
