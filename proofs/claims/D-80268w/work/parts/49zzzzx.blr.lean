/-! COMPONENT, 39: the rows of a block *-/
/-- an open block's own list -/
def OBK (v : vT) (A : Nat → Int → Nat) (T : Nat → Nat) (U : tSt) (w b : Int) (l : Nat) : Prop :=
  T l = 4 ∧ hK v.1 (A 3 b) = 21 ∧ hI v.1 (A 3 b) 1 = iI (U 44 b) ∧ hR v.1 (A 3 b) 0 = some l ∧ hK v.1 l = 4 ∧ vLs v l = (stL U w (fun s => decide (U 22 s = b))).map (fun s => some (A 2 s))
section BRS
variable {r l : Nat} {R : Nat → Nat} {w b p0 : Int} {o : Option Nat}
theorem stL_len {U : tSt} {p : Int → Bool} (n : 0 ≤ U 19 w ∧ U 19 w ≤ 120) : (stL U w p).length ≤ 120 := by
  unfold stL
  refine Nat.le_trans (List.length_filter_le _ _) ?_
  rw [List.length_map, List.length_range]
  omega
/-- the statements of a block, when one was read -/
theorem stL_nw {U U' : tSt} (f : FU w U U') (n : NWs w U U' b) (hb : Ab w U b) (w0 : 0 ≤ w) (n19 : 0 ≤ U 19 w) : stL U' w (fun s => decide (U' 22 s = b)) = stL U w (fun s => decide (U 22 s = b)) ++ [w * 120 + U 19 w] := by
  obtain ⟨n1, n2, n3⟩ := n
  have key : ∀ d : Nat, ((List.range ((U 19 w).toNat + 1 + d)).map (fun (i : Nat) => w * 120 + (i : Int))).filter (fun s => decide (U' 22 s = b) && decide (s < w * 120 + (U 19 w + 1 + d))) = ((List.range (U 19 w).toNat).map (fun (i : Nat) => w * 120 + (i : Int))).filter (fun s => decide (U 22 s = b)) ++ [w * 120 + U 19 w] ∨ U' 19 w < U 19 w + 1 + d := by
    intro d
    induction d with
    | zero =>
      left
      rw [Nat.add_zero, List.range_succ, List.map_append, List.filter_append]
      congr 1
      · apply List.filter_congr
        intro k hk
        obtain ⟨i, hi, e⟩ := List.mem_map.mp hk
        have hi' := List.mem_range.mp hi
        rw [f.fs (f := 22) (s := k) ⟨by omega, by omega⟩ (by decide) (by decide) (by decide), decide_eq_true (p := k < w * 120 + (U 19 w + 1 + ((0 : Nat) : Int))) (by omega), Bool.and_true]
      · have e : w * 120 + (((U 19 w).toNat : Nat) : Int) = w * 120 + U 19 w := by omega
        rw [List.map_cons, List.map_nil, e, List.filter_cons, n2, decide_eq_true rfl, decide_eq_true (by omega)]
        rfl
    | succ d ih =>
      by_cases q : U' 19 w < U 19 w + 1 + ((d + 1 : Nat) : Int)
      · exact Or.inr q
      · left
        have ih := ih.resolve_right (by omega)
        rw [show (U 19 w).toNat + 1 + (d + 1) = ((U 19 w).toNat + 1 + d) + 1 by omega, List.range_succ, List.map_append, List.filter_append, ← ih]
        have e : w * 120 + (((U 19 w).toNat + 1 + d : Nat) : Int) = w * 120 + (U 19 w + 1 + d) := by omega
        have last : List.filter (fun s => decide (U' 22 s = b) && decide (s < w * 120 + (U 19 w + 1 + ((d + 1 : Nat) : Int)))) (List.map (fun (i : Nat) => w * 120 + (i : Int)) [(U 19 w).toNat + 1 + d]) = [] := by
          rw [List.map_cons, List.map_nil, e, List.filter_cons]
          have := n3 (w * 120 + (U 19 w + 1 + d)) ⟨by omega, by omega⟩ (fun z => by have := z.2; omega) (by omega)
          have := hb.2
          rw [decide_eq_false (by omega), Bool.false_and]
          rfl
        rw [last, List.append_nil]
        apply List.filter_congr
        intro k hk
        obtain ⟨i, hi, e2⟩ := List.mem_map.mp hk
        have hi' := List.mem_range.mp hi
        rw [decide_eq_true (p := k < w * 120 + (U 19 w + 1 + ((d + 1 : Nat) : Int))) (by omega), decide_eq_true (p := k < w * 120 + (U 19 w + 1 + (d : Int))) (by omega)]
  have y := (key (U' 19 w - U 19 w - 1).toNat).resolve_right (by omega)
  unfold stL
  rw [← y, show (U 19 w).toNat + 1 + (U' 19 w - U 19 w - 1).toNat = (U' 19 w).toNat by omega]
  apply List.filter_congr
  intro k hk
  obtain ⟨i, hi, e2⟩ := List.mem_map.mp hk
  have hi' := List.mem_range.mp hi
  rw [decide_eq_true (p := k < w * 120 + (U 19 w + 1 + (((U' 19 w - U 19 w - 1).toNat : Nat) : Int))) (by omega), Bool.and_true]
theorem HD.ab {A : Nat → Int → Nat} {T : Nat → Nat} {v : vT} {S U : tSt} (x : HD R A T w p0 v S U o) : Ab w U (S 56 (S 55 0 - 1)) := by
  obtain ⟨_, ⟨hP, _, _, w0⟩, ⟨d1, _⟩, _⟩ := x
  have := hP.2.2.2.2.2.2.2.1 (S 55 0 - 1) (by omega) (by omega)
  exact ⟨by omega, by omega⟩
theorem blk_loop (stc : STC r R w p0) {v0 : vT} {T0 : Nat → Nat} (hl : hN v0.1 ≤ l) : ∀ (n : Nat) (h : am_H) (v : vT) (A : Nat → Int → Nat) (T : Nat → Nat) (S U : tSt) (c0 d0 : Int) (Q : am_O → am_H → Prop), (2000 - S 49 0).toNat < n → CR h v → HD R A T w p0 v S U o → S 56 (S 55 0 - 1) = b → 10 - S 55 0 ≤ r → OBK v A T U w b l → MX R T0 v0 v c0 d0 → (∀ a, a < hN v0.1 → T a = T0 a) →
    (∀ h' v' A' T' S3 U3, CR h' v' → MX R T0 v0 v' (c0 + 300 * (S3 47 0 - S 47 0)) (d0 + 2000 * (S3 47 0 - S 47 0)) → AE w U A A' T T' → (∀ a, a < hN v0.1 → T' a = T0 a) → FU w U U3 → S 47 0 ≤ S3 47 0 → S3 48 0 = S 48 0 → HD R A' T' w p0 v' S3 U3 o → tGo w (S, U) (S3, U3) → S3 51 0 = 125 → S3 55 0 = S 55 0 → (∀ i, i < S 55 0 → S3 56 i = S 56 i) → OBK v' A' T' U3 w b l → (∀ k, As w U3 k → ¬ As w U k → b ≤ U3 22 k) → Rn r 134 82 [some (vR (some (R 0))), some (vR o), some (vR (some (A' 3 b)))] [] h' Q) →
    (∀ h' v' p, CR h' v' → MX R T0 v0 v' (c0 + 300 * (S 48 0 - S 47 0) + 60 * (20 - 2 * S 55 0)) (d0 + 2000 * (S 48 0 - S 47 0) + 800 * (20 - 2 * S 55 0)) → hI v'.1 (R 2) 6 = iI p → vCp v' (R 9) ≤ 6000 → doom w (S, U) p → Q (Sum.inr (R 2)) h') →
    Rn r 134 57 [some (vR (some (R 0))), some (vR o), some (vR (some (A 3 b)))] [] h Q := by
  intro n
  induction n with
  | zero => intro h v A T S U c0 d0 Q hn; omega
  | succ n ih =>
    intro h v A T S U c0 d0 Q hn c hd e56 hr ob m0 ts0 q1 q2
    have hd' := hd
    have ab := hd.ab
    rw [e56] at ab
    obtain ⟨g, ⟨hP, pr, qv, w0⟩, ⟨d1, s52⟩, ar⟩ := hd
    have k0 := g.1.w0.1
    have kr := c.kk k0 (by decide)
    have s51 := hP.1.2.2.2.1
    have e6 : hI h (R 0) 6 = iI (S 51 0) := by rw [c.ii k0 rfl]; exact g.1.1.2.2.2.1
    have i125 : iI (S 51 0) = iI 125 ↔ S 51 0 = 125 := iI_eq (by omega) (by omega) (by omega) (by omega)
    rw [sX1_block_57, sX1_block_58 kr, e6, sX1_block_61, sX1_block_63, i_125]
    by_cases p : S 51 0 = 125
    · rw [if_pos (i125.mpr p)]
      exact q1 h v A T S U c (m0.le (by omega) (by omega)) AE.refl ts0 FU.refl (by omega) rfl hd' (tGo_refl _) p rfl (fun _ _ => rfl) ob (fun k a b => absurd a b)
    · obtain ⟨o1, o2, o3, o4, o5, o6⟩ := ob
      rw [if_neg (fun z => p (i125.mp z)), sX1_block_66, sX1_block_67 (c.kk o2 (by decide)), c.rr o2 rfl, o4, sX1_block_70, sX1_block_71, sX1_block_72 kr]
      refine stc h v A T S U o _ c hd' p hr (fun h1 v1 A1 T1 S1 U1 c1 sx hd1 go lt e55 e56' nw => ?_) (fun h1 v1 p1 c1 wx dm => ?_)
      · obtain ⟨⟨mf, mr⟩, ae, ts, fu, le, e48⟩ := sx
        have ll : l < hN v.1 := hK_lt o5 (by decide)
        have tl1 : T1 l = 4 := by rw [ts l ll]; exact o1
        have k0v := g.1.w0.1
        have k2v := g.1.w0.2.1
        have tgv := g.2.2.2.2.1.1
        have nxl : ¬ Xb (R 0) (R 2) T l 99 := fun z => by
          rcases z with z | z | z | z
          · omega
          · omega
          · omega
          · omega
        have kl1 := mf.kk o5 (by decide)
        have ls1 : vLs v1 l = vLs v l := (mf.cc ll nxl).1
        have a3 : A1 3 b = A 3 b := ae.2.1 b ab
        have fb : ∀ k, hI v1.1 (A 3 b) k = hI v.1 (A 3 b) k ∧ hJ v1.1 (A 3 b) k = hJ v.1 (A 3 b) k ∧ hR v1.1 (A 3 b) k = hR v.1 (A 3 b) k := fun k => mf.ff (hK_lt o2 (by decide)) (fun z => by
          have t0 := tgv (A 3 b) (by rw [o2]; decide) (by rw [o2]; decide) (by rw [o2]; decide)
          rcases z with z | z | z | z
          · rw [z.1, k0v] at o2
            exact absurd o2 (by decide)
          · rw [z.1, k2v] at o2
            exact absurd o2 (by decide)
          · omega
          · omega)
        obtain ⟨G1, ⟨hP1, pr1, qv1, _⟩, ⟨d11, s521⟩, ar1, ch1⟩ := hd1
        have n19 := hP.2.2.2.2.2.1
        have n191 := hP1.2.2.2.2.2.1
        have hsA : As w U1 (w * 120 + U 19 w) := ⟨by omega, by have := nw.1; omega⟩
        have es := G1.2.2.2.2.2.2.2.2.1 _ hsA
        have len : (vLs v1 l).length ≤ 120 := by rw [ls1, o6, List.length_map]; exact stL_len n19
        rw [Kt_v, sX1_block_75 (c1.kk kl1 (by decide))]
        refine v_add c1 kl1 (z := some (A1 2 (w * 120 + U 19 w))) ⟨by have := es.1.1; omega, by have := es.1.2; omega⟩ (by omega) (fun h2 n' s' c' c2 gw => ?_)
        obtain ⟨g1, g2, g3, g4, g5, g6, g7, g8⟩ := grw_b gw (c1.cp kl1)
        have f2 : Fw (fun a k => a = l ∧ k = 99) v1 (vsL (vbm v1 n' s') l (vLs v1 l ++ [some (A1 2 (w * 120 + U 19 w))]) c') := (Fw.refl.bm g1).sL (Or.inr ⟨rfl, rfl⟩)
        have ls2 : vLs (vsL (vbm v1 n' s') l (vLs v1 l ++ [some (A1 2 (w * 120 + U 19 w))]) c') l = vLs v1 l ++ [some (A1 2 (w * 120 + U 19 w))] := by rw [vLs_sL, if_pos rfl]
        have n2 : hN (vsL (vbm v1 n' s') l (vLs v1 l ++ [some (A1 2 (w * 120 + U 19 w))]) c').1 = n' := rfl
        have s2 : hS (vsL (vbm v1 n' s') l (vLs v1 l ++ [some (A1 2 (w * 120 + U 19 w))]) c').1 = s' := rfl
        generalize (vsL (vbm v1 n' s') l (vLs v1 l ++ [some (A1 2 (w * 120 + U 19 w))]) c') = v2 at *
        rw [Kt_v, sX1_block_78, sX1_block_79, ← a3]
        have t93 : T1 (R 9) = 3 := G1.2.2.2.2.2.1.2.2.2.2.2.2.1.2.1
        have nl9 : R 9 ≠ l := fun e => by rw [e, tl1] at t93; exact absurd t93 (by decide)
        have cp2 : vCp v2 (R 9) = vCp v1 (R 9) := (f2.cc (hK_lt G1.k9 (by decide)) (fun z => nl9 z.1)).2.2.1
        have tl : l < hN v1.1 := hK_lt kl1 (by decide)
        have xz : XZ v1 T1 (hN v1.1) (fun a k => a = l ∧ k = 99) := fun a k z _ => Or.inr (Or.inr (Or.inl ⟨z.2, by rw [z.1, tl1]; decide⟩))
        have G2 : GI R A1 T1 w (-1) p0 v2 S1 U1 := by
          refine GI_x G1 pr1 qv1 w0 f2 xz (Or.inr (Nat.le_refl _)) (fun k z => by have := z.1; omega) (fun k hk z => by have := z.2; omega) (fun a z => by rw [z.1, tl1]; decide) (fun a k z hk => by have := z.2; omega) (PT_fw f2 G1.1 (fun k hk z => by have := z.2; omega) (fun k z => by have := G1.1.w0.2.2; rw [z.1, kl1] at this; exact absurd this (by decide)) (fun a z => by rw [z.1, kl1]; decide)) (Int.le_refl _) rfl rfl (TG_fw f2 G1.2.2.2.2.1) (fun _ _ _ => rfl)
        have hd2 : HD R A1 T1 w p0 v2 S1 U1 o := ⟨G2, ⟨hP1, pr1, qv1, w0⟩, ⟨d11, s521⟩, AR_fw f2 (fun a k z => by rw [z.1, kl1]; exact ⟨by decide, fun y => absurd y (by decide), fun _ => by decide⟩) _ _ _ ar1, ch1⟩
        have e44 : U1 44 b = U 44 b := fu.fb ab (by decide) (by decide)
        have kb1 := mf.kk o2 (by decide)
        have q2f := fun k => f2.ff (k := k) (hK_lt kb1 (by decide)) (fun z => by have := kb1; rw [z.1, kl1] at this; exact absurd this (by decide))
        have ob2 : OBK v2 A1 T1 U1 w b l := by
          unfold OBK
          rw [a3]
          refine ⟨tl1, f2.kk kb1 (by decide), by rw [(q2f 1).1, (fb 1).1, e44]; exact o3, by rw [(q2f 0).2.2, (fb 0).2.2]; exact o4, f2.kk kl1 (by decide), ?_⟩
          rw [ls2, ls1, o6, stL_nw fu (by rw [← e56]; exact nw) ab w0.1 n19.1, List.map_append]
          congr 1
          exact List.map_congr_left (fun k hk => by rw [(ae.1 k (stL_As hk)).1])
        have ts1 : ∀ a, a < hN v0.1 → T1 a = T0 a := fun a ha => by rw [ts a (by have := m0.1.1; omega), ts0 a ha]
        have m2 : MX R T0 v0 v2 (c0 + 300 * (S1 47 0 - S 47 0)) (d0 + 2000 * (S1 47 0 - S 47 0)) := by
          refine ⟨(Xb_tr m0.1 mf ts0).tr2 f2 (fun a k z => Or.inl (by rw [z.1]; exact hl)), ?_⟩
          obtain ⟨r1, r2, r3, r4, r5⟩ := m0.2.trans mr
          exact ⟨by omega, by omega, by omega, by rw [cp2]; omega, by rw [cp2]; exact r5⟩
        have e56s : S1 56 (S1 55 0 - 1) = b := by rw [e55, e56' _ (by omega)]; exact e56
        refine ih h2 v2 A1 T1 S1 U1 _ _ Q (by have := hP1.1.2.1; omega) c2 hd2 e56s (by rw [e55]; exact hr) ob2 m2 ts1 (fun h' v' A' T' S3 U3 c3 m3 ae3 ts3 fu3 le3 x48 hd3 go3 x51 x55 x56 ob3 nw3 => ?_) (fun h' v' p1 c3 m3 i3 cp3 dm3 => ?_)
        · refine q1 h' v' A' T' S3 U3 c3 (m3.le (by omega) (by omega)) (ae.trans fu ae3) ts3 (fu.trans fu3) (by omega) (by omega) hd3 (tGo_trans go go3) x51 (by omega) (fun i hi => by rw [x56 i (by omega)]; exact e56' i hi) ob3 (fun k hk hk2 => ?_)
          by_cases y : As w U1 k
          · rw [fu3.fs (f := 22) y (by decide) (by decide) (by decide)]
            by_cases ek : k = w * 120 + U 19 w
            · rw [ek, nw.2.1, e56]
              exact Int.le_refl _
            · have := nw.2.2 k y hk2 ek
              have := ab.2
              omega
          · exact nw3 k hk y
        · exact q2 h' v' p1 c3 (m3.le (by omega) (by omega)) i3 cp3 (doom_go go dm3)
      · obtain ⟨x1, x2, x3⟩ := wx
        rw [Kt_x]
        exact q2 h1 v1 p1 c1 ((m0.trans x1 ts0).le (by omega) (by omega)) x2 x3 dm
theorem go_tok {S S3 U U3 : tSt} (si : SI S) (tk : TK S) (d : 0 < S 55 0) (s52 : S 52 0 = -1) (go : tGo w (S, U) (S3, U3)) (e : S3 51 0 ≠ -1) (e52 : S3 52 0 = -1) : S 51 0 ≠ -1 := by
  intro s51
  obtain ⟨n, en⟩ := go
  cases n with
  | zero =>
    have : S = S3 := congrArg Prod.fst en
    rw [this] at s51
    exact e s51
  | succ n =>
    change tRun w (n + 1) S U = (S3, U3) at en
    have s50 : S 50 0 = 0 := tk.2.2.2 (by omega)
    have st : tStep w S U = (tFail S, U) := by
      unfold tStep
      rw [if_neg (by omega), if_neg (by omega)]
      unfold tStmt
      rw [if_neg]
      intro z
      have z := z.1
      unfold tBegins at z
      rw [s51, s50] at z
      exact absurd z (by decide)
    have f52 := fail_52 s52
    have s49 := si.2.1
    have nm : tMore (tFail S) = false := by
      unfold tMore
      rw [f52, decide_eq_false (by omega), Bool.false_and]
    rw [tRun, if_pos (more_of s52 (Or.inl d)), st, tRun_stay nm] at en
    have : tFail S = S3 := congrArg Prod.fst en
    rw [← this, f52] at e52
    omega
theorem SI_55 {S : tSt} {b : Int} (h : SI S) (h8 : S 55 0 < 8) : SI (up (up S 56 (S 55 0) b) 55 0 (S 55 0 + 1)) := by
  obtain ⟨s1, s2, s3, s4, s5, s6, s7, s8⟩ := h
  unfold SI SG at *
  simp only [up_eq, true_and, false_and, and_true, and_false, and_self, if_true, if_false, eq_self, Nat.reduceEqDiff, reduceIte]
  exact ⟨s1, s2, s3, s4, s5, s6, s7, by omega, by omega⟩
/-- a block is read -/
theorem c_block (stc : STC r R w p0) : BLC r R w p0 := by
  intro h v A T S U U1 own b o Q c g ⟨hP, pr, qv, w0⟩ s52 hb hr ho op q1 q2
  have k9 := g.k9
  have le := g.1.le
  have d8 := hP.1.2.2.2.2.2.2.2
  have cp0 := ML_cp g qv
  refine blk_open c g hP pr qv w0 hb ho (fun p => (op p).1) (fun p n51 h1 v1 a l c1 mx fx hl ka i1 r0 kl ls G1 => ?_) (fun p e51 h' v' c' mx i6 cp => ?_) (fun p h' v' c' wg => ?_)
  · obtain ⟨⟨h0, ⟨e19, e40, e42, e44⟩, ⟨e20, e33, e26, e25, e30, e22⟩, em, hP1, pr1, qv1⟩, ar, ch1⟩ := op p
    obtain ⟨o55, o56⟩ := oS_v (S := S) (b := b)
    have p8 := (tIsO_iff.mp p).2
    have nb := pr.2.1
    have abn : Ab w U1 b := ⟨by omega, by omega⟩
    have si1 := SI_55 (b := b) hP.1 (by omega)
    have e47 : up (up S 56 (S 55 0) b) 55 0 (S 55 0 + 1) 47 0 = S 47 0 := by rw [up_n (by decide), up_n (by decide)]
    obtain ⟨o47, o49, o97⟩ := tAdv_47 si1
    rw [e47] at o47 o49
    change S 47 0 ≤ oS S b 47 0 at o47
    change S 47 0 ≤ oS S b 49 0 at o49
    change oS S b 49 0 ≤ oS S b 47 0 at o97
    have o48 : oS S b 48 0 = S 48 0 := by rw [oS_f (by decide) (by decide) (by decide) (by decide) (by decide) (by decide)]
    have o52 : oS S b 52 0 = -1 := by rw [oS_f (by decide) (by decide) (by decide) (by decide) (by decide) (by decide)]; exact s52
    have kx : ∀ c k, Xn (R 0) (R 2) c k → (hK v.1 c = 2 ∨ hK v.1 c = 3) ∧ k ≠ 99 := fun c k y => by
      rcases y with (y | y) | y
      · exact ⟨Or.inl (by rw [y.1]; exact g.1.w0.1), by omega⟩
      · exact ⟨Or.inr (by rw [y.1]; exact g.1.w0.2.1), by omega⟩
      · exact ⟨Or.inl (by rw [y.1]; exact g.1.w0.1), by omega⟩
    have tl0 : T l = 0 := g.2.2.2.2.1.2 l hl
    have ae1 : AE w U A (Aeb A b a) T (Tst T l 4) := ⟨fun k _ => ⟨Aeb_o (Or.inl (by decide)), Aeb_o (Or.inl (by decide))⟩, fun c hc => Aeb_o (Or.inr (fun e => by have := hc.2; omega)), fun c _ _ => Aeb_o (Or.inl (by decide)), Aeb_f (by decide), Aeb_f (by decide), fun c h0 _ => Tst_o (fun e => h0 (by rw [e]; exact tl0))⟩
    have ts1 : ∀ a, a < hN v.1 → Tst T l 4 a = T a := fun a ha => Tst_o (by omega)
    have hS1 : ∀ s, As w U s → As w U1 s ∧ U 33 s ≤ U1 33 s := fun s hs => ⟨⟨hs.1, by rw [e19]; exact hs.2⟩, by rw [e33]; exact Int.le_refl _⟩
    have hB1 : ∀ c, Ab w U c → Ab w U1 c := fun c hc => ⟨hc.1, by have := hc.2; omega⟩
    have top : oS S b 56 (oS S b 55 0 - 1) = b := by rw [o55, o56, if_pos (by omega)]
    have ar1 : AR v1 (Aeb A b a) U1 (b + 2).toNat b o := by
      have y := AR_fw fx (fun c k y => by have := (kx c k y).1; exact ⟨by omega, fun e => by omega, fun e => absurd e (kx c k y).2⟩) _ _ _ ar
      exact AR_A (fun f hf => Aeb_f hf) _ _ _ y
    have hd1 : HD R (Aeb A b a) (Tst T l 4) w p0 v1 (oS S b) U1 o := ⟨G1, ⟨hP1, pr1, qv1, w0⟩, ⟨by omega, o52⟩, by rw [top]; exact ar1, ch1⟩
    have nost : stL U1 w (fun s => decide (U1 22 s = b)) = [] := by
      unfold stL
      rw [List.filter_eq_nil_iff]
      intro k hk
      obtain ⟨i, hi, e2⟩ := List.mem_map.mp hk
      have hi' := List.mem_range.mp hi
      have := ((pr.1.1 k ⟨by omega, by omega⟩).1).2
      rw [e22, decide_eq_true_eq]
      omega
    have ob1 : OBK v1 (Aeb A b a) (Tst T l 4) U1 w b l := by
      unfold OBK
      rw [Aeb_3, nost]
      exact ⟨Tst_s, ka, by rw [e44]; exact i1, r0, kl, ls⟩
    have a3 : Aeb A b a 3 b = a := Aeb_3
    rw [show (some a : Option Nat) = some (Aeb A b a 3 b) by rw [a3]]
    refine blk_loop stc (T0 := T) hl 2001 h1 v1 (Aeb A b a) (Tst T l 4) (oS S b) U1 _ _ Q (by have := hP1.1.2.1; omega) c1 hd1 top (by rw [o55]; omega) ob1 mx ts1 (fun h' v' A' T' S3 U3 c3 m3 ae3 ts3 fu3 le3 x48 hd3 go3 x51 x55 x56 ob3 nw3 => ?_) (fun h' v' p1 c3 m3 i3 cp3 dm3 => ?_)
    · obtain ⟨G3, ⟨hP3, pr3, qv3, _⟩, ⟨d13, s523⟩, ar3⟩ := hd3
      obtain ⟨y1, y2, y3, y4, y5, y6⟩ := ob3
      have e423 : U3 42 b = own := by rw [fu3.fb abn (by decide) (by decide)]; exact e42
      have t563 : S3 56 (S3 55 0 - 1) = b := by rw [x55, x56 _ (by omega)]; exact top
      have tk3 := hP3.2.1.2.2.1 (by omega)
      have o1 : oS S b 49 0 ≤ S3 49 0 := by
        obtain ⟨nn, en⟩ := go3
        have := tGo_mono nn (oS S b) U1 hP1 (by rw [en]; exact s523)
        rw [en] at this
        exact this
      have si3 : SI (up S3 55 0 (S3 55 0 - 1)) := SI_dec hP3.1 d13
      have x47 := (tAdv_47 si3).1
      rw [up_n (by decide)] at x47
      change S3 47 0 ≤ xS S3 47 0 at x47
      have x482 : xS S3 48 0 = S3 48 0 := by rw [xS_f (by decide) (by decide) (by decide) (by decide) (by decide)]
      have PI3 : PI w (xS S3) U3 := PI_adv (PI_dec hP3 d13)
      have tsl : ∀ a, a < hN v.1 → Tst T' l 1 a = T a := fun a ha => by rw [Tst_o (by omega)]; exact ts3 a ha
      have aeF : AE w U A A' T (Tst T' l 1) := (ae1.tr hS1 hB1 ae3).tr (fun s hs => ⟨hs, Int.le_refl _⟩) (fun b hb => hb) ⟨fun _ _ => ⟨rfl, rfl⟩, fun _ _ => rfl, fun _ _ _ => rfl, rfl, rfl, fun c h0 h4 => Tst_o (fun e => h4 (by rw [e]; exact y1))⟩
      have t1 := hP1.2.1.2.2.1 (go_tok hP1.1 hP1.2.1 (by omega) o52 go3 (by omega) s523)
      refine blk_end c3 G3 hP3 pr3 qv3 w0 d13 t563 e423 x51 s523 y1 y2 y3 y4 y5 y6 (fun z h4 v4 c4 m4 G4 fb4 => ?_) (fun z h4 v4 c4 w4 => ?_)
      · have m5 := m3.trans m4 ts3
        refine q1 p h4 v4 A' (Tst T' l 1) S3 U3 c4 (m5.le ?_ ?_) aeF tsl fu3 (by omega) (by omega) G4 ⟨PI3, pr3, qv3⟩ go3 x51 s523 z (by omega) (fun i hi => ?_) ?_ fb4 (fun k hk hk2 => nw3 k hk (fun y => hk2 ⟨y.1, by have := y.2; omega⟩))
        · omega
        · omega
        · rw [x56 i (by omega), o56, if_neg (by omega)]
        · rw [x56 _ (by omega), o56, if_pos rfl]
      · obtain ⟨w1, w2, w3, w4', w5⟩ := w4
        have k93 := G3.k9
        have m4 : MX R T' v' v4 0 0 := MX_q w1 k93 (by omega) w4' (by omega)
        have cp4 : vCp v4 (R 9) = vCp v' (R 9) := (w1.cc (hK_lt k93 (by decide)) (fun y => by rcases y with y | y <;> omega)).2.2.1
        have cp3 := ML_cp G3 qv3
        have le8 := G3.1.le
        have s9 : xS S3 49 0 ≠ -1 := by have := PI3.1.2.1; omega
        refine q2 h4 v4 (xS S3 49 0) c4 ⟨(m3.trans m4 ts3).le (by omega) (by omega), w2, by rw [cp4]; omega⟩ (fun _ => doom_go go3 ?_) (fun y => absurd p y)
        refine doom_step s523 (Or.inl (by omega)) ?_
        unfold tStep
        rw [if_neg (by omega), if_pos x51]
        unfold tClose
        exact doom_shut (by rw [tAdv_52, up_n (by decide)]; exact s523) PI3.1 PI3.2.1 z
    · refine q2 h' v' p1 c3 ⟨m3.le (by omega) (by omega), i3, cp3⟩ (fun _ => dm3) (fun y => absurd p y)
  · obtain ⟨⟨h0, _, _, _, hP1, pr1, qv1⟩, ar⟩ := op p
    have o52 : oS S b 52 0 = -1 := by rw [oS_f (by decide) (by decide) (by decide) (by decide) (by decide) (by decide)]; exact s52
    refine q2 h' v' _ c' ⟨mx.le (by omega) (by omega), i6, by rw [cp]; omega⟩ (fun _ => doom_bad o52 hP1.1 hP1.2.1 e51) (fun y => absurd p y)
  · exact q2 h' v' _ c' (Wg_X g qv wg (by omega) (by omega) le) (fun y => absurd y p) (fun _ => rfl)
end BRS
