/-! COMPONENT, 152: walks: contracts; a block (106) *-/
/-- frames below n stay -/
def KF (n : Int) (S S' : tSt) : Prop := ∀ k, k < n → S' 70 k = S 70 k ∧ S' 71 k = S 71 k ∧ S' 72 k = S 72 k ∧ S' 73 k = S 73 k
/-- the catches around caught something -/
def PAn (w : Int) (U : tSt) (P : Int → Prop) (b : Int) : Prop := ∀ k, Ab w U k → anc U b k → U 41 k = 6 → P (4 * U 42 k + U 43 k)
/-- how a block ends, before it is left -/
def BE (n b : Int) (S S' : tSt) : Prop := (S' 68 0 = 1 ∧ 0 ≤ S' 69 0 ∧ S' 69 0 < 16) ∨ (S' 68 0 = 0 ∧ S' 69 0 = n + 1 ∧ KF n S S' ∧ (S' 70 n = b ∧ S' 72 n = S 72 n ∧ S' 73 n = S 73 n) ∧ (-1 ≤ S' 71 n ∧ S' 71 n < 100000) ∧ (S' 66 0 ≠ 0 ∨ S' 71 n = -1))
/-- how a statement ends -/
def SE (n : Int) (S S' : tSt) : Prop := (S' 68 0 = 1 ∧ 0 ≤ S' 69 0 ∧ S' 69 0 < 16) ∨ (S' 68 0 = 0 ∧ S' 69 0 = n ∧ KF n S S')
/-- Block.walk -/
def BWC (r : Nat) (R : Nat → Nat) (A : Nat → Int → Nat) (T : Nat → Nat) (w p0 : Int) (g : Int → Int) (U : tSt) (c l : Int → Int) (wk : Nat) (v0 : vT) : Prop := ∀ (h : am_H) (v : vT) (S : tSt) (P : Int → Prop) (b n : Int) (Q : am_O → am_H → Prop), CR h v → WV R A T w p0 U c l wk P v0 v S → (S 66 0 = 0 ∧ S 68 0 = 0 ∧ S 69 0 = n ∧ (0 ≤ n ∧ n + 1 ≤ g b)) → Ab w U b → 9 - g b ≤ r → PAn w U P b →
  (∀ h' v' S' P', CR h' v' → WV R A T w p0 U c l wk P' v0 v' S' → (∀ k, P k → P' k) → WGo w U (tPush U b S) S' → BE n b S S' → Q (Sum.inl none) h') → Cl r 106 [vR (some (A 3 b)), vR (some wk)] h Q
/-- walk(nn) of a statement -/
def SWN (r nn : Nat) (R : Nat → Nat) (A : Nat → Int → Nat) (T : Nat → Nat) (w p0 : Int) (g : Int → Int) (U : tSt) (c l : Int → Int) (wk : Nat) (v0 : vT) (s : Int) : Prop := ∀ (h : am_H) (v : vT) (S : tSt) (P : Int → Prop) (n : Int) (Q : am_O → am_H → Prop), CR h v → WV R A T w p0 U c l wk P v0 v S → (S 66 0 = 0 ∧ S 68 0 = 0 ∧ S 69 0 = n ∧ (0 ≤ n ∧ n ≤ g (U 22 s))) → PAn w U P (U 22 s) →
  (∀ h' v' S' P', CR h' v' → WV R A T w p0 U c l wk P' v0 v' S' → (∀ k, P k → P' k) → WGo w U (tBeg U w s S) S' → SE n S S' → Q (Sum.inl none) h') → Cl r nn [vR (some (A 2 s)), vR (some wk)] h Q
/-- Statement.step behind a step -/
def SWC (r : Nat) (R : Nat → Nat) (A : Nat → Int → Nat) (T : Nat → Nat) (w p0 : Int) (g : Int → Int) (U : tSt) (c l : Int → Int) (wk : Nat) (v0 : vT) (s : Int) : Prop := ∀ (h : am_H) (v : vT) (S : tSt) (P : Int → Prop) (n : Int) (Q : am_O → am_H → Prop), CR h v → WV R A T w p0 U c l wk P v0 v S → (S 66 0 = 0 ∧ S 68 0 = 0 ∧ S 69 0 = n ∧ (0 ≤ n ∧ n ≤ g (U 22 s))) → PAn w U P (U 22 s) →
  (∀ h' v' S' P', CR h' v' → WV R A T w p0 U c l wk P' v0 v' S' → (∀ k, P k → P' k) → WGo w U (tBeg U w s S) S' → SE n S S' → Q (Sum.inl none) h') → Rn r 160 7 [some (vR (some (A 2 s))), some (vR (some wk))] [] h Q
section WBL
variable {R : Nat → Nat} {A : Nat → Int → Nat} {T : Nat → Nat} {w p0 n s b : Int} {g : Int → Int} {U S S' S'' S0 : tSt} {c l : Int → Int} {wk r : Nat} {P P0 : Int → Prop} {v0 v v' : vT} {h : am_H} {Q : am_O → am_H → Prop} {l3 l4 : Option am_V}
theorem KF.rf : KF n S S := fun _ _ => ⟨rfl, rfl, rfl, rfl⟩
theorem KF.tr (a : KF n S S') (b : KF n S' S'') : KF n S S'' := fun k hk => by
  obtain ⟨a1, a2, a3, a4⟩ := a k hk
  obtain ⟨b1, b2, b3, b4⟩ := b k hk
  exact ⟨b1.trans a1, b2.trans a2, b3.trans a3, b4.trans a4⟩
theorem KF.le {m : Int} (a : KF n S S') (h : m ≤ n) : KF m S S' := fun k hk => a k (by omega)
theorem KF.cg (e : ∀ f, f = 70 ∨ f = 71 ∨ f = 72 ∨ f = 73 → S' f = S f) : KF n S S' := fun k _ => by
  rw [e 70 (by omega), e 71 (by omega), e 72 (by omega), e 73 (by omega)]
  exact ⟨rfl, rfl, rfl, rfl⟩
theorem WV.wr (x : WV R A T w p0 U c l wk P v0 v S) (h : 0 ≤ S 69 0 ∧ S 69 0 < 16) : WR S := by
  obtain ⟨_, _, _, b65, b66, b74, _, _⟩ := x.1
  exact ⟨b65, b66, h, b74⟩
theorem As_n (j : JP w g U c l) (hs : As w U s) : 0 ≤ s ∧ s < 100000 := by
  have b19 := QV_b j.2.1.2.1 (f := 19) (c := 120) rfl rfl rfl w
  have w0 := j.2.1.2.2.2.1
  have w1 := j.2.1.2.2.2.2.1
  unfold As at hs
  omega
theorem mem_k {x : Nat} (h : 30 ≤ x ∧ x ≤ 38) : x ∈ [30, 31, 32, 33, 34, 35, 36, 37, 38] := by
  obtain ⟨h1, h2⟩ := h
  have : x = 30 ∨ x = 31 ∨ x = 32 ∨ x = 33 ∨ x = 34 ∨ x = 35 ∨ x = 36 ∨ x = 37 ∨ x = 38 := by omega
  rcases this with rfl | rfl | rfl | rfl | rfl | rfl | rfl | rfl | rfl <;> decide
/-- no row is walked any more -/
theorem bw_exit {k : Int} (cr : CR h v) (x : WV R A T w p0 U c l wk P v0 v S) (hb : Ab w U b) (hz : S 68 0 = 1 ∨ S 66 0 ≠ 0) (q : Q (Sum.inl none) h) : Rn r 106 2 [some (vR (some (A 3 b))), some (vR (some wk)), some (vI (iI k))] [] h Q := by
  have kw := x.kw
  obtain ⟨kb, _, lr, r0, kl, _, vl⟩ := x.gx.2.2.2.2.2.1 b hb
  rw [sX11_walk_2, sX11_walk_3, sX11_walk_4 (cr.kk kb (by decide)), cr.rr kb rfl, r0, sX11_walk_7 (cr.kk kl (by decide)), v_size cr kl, Kt_v, sX11_walk_10]
  split
  · rw [sX11_walk_41]
    exact q
  · rw [sX11_walk_13, sX11_walk_14 (cr.kk kw (by decide)), wk_goes cr x.1, Kt_v, sX11_walk_17, if_pos (by rw [bI_f (by omega)]; rfl), sX11_walk_41]
    exact q
theorem bw_loop (j : JP w g U c l) (sw : ∀ s, As w U s → U 22 s = b → SWC r R A T w p0 g U c l wk v0 s) (hb : Ab w U b) (gb : n + 1 ≤ g b) (n0 : 0 ≤ n) (n7 : n ≤ 7)
    (q : ∀ h' v' S' P', CR h' v' → WV R A T w p0 U c l wk P' v0 v' S' → (∀ k, P0 k → P' k) → WGo w U (tPush U b S0) S' → BE n b S0 S' → Q (Sum.inl none) h') : ∀ (E D : List Int) (h : am_H) (v : vT) (S : tSt) (P : Int → Prop), stB U w b = D ++ E → CR h v → WV R A T w p0 U c l wk P v0 v S → PAn w U P b → (∀ k, P0 k → P k) → WGo w U (tPush U b S0) S →
    (S 68 0 = 0 ∧ S 69 0 = n + 1 ∧ KF n S0 S ∧ (S 70 n = b ∧ S 72 n = S0 72 n ∧ S 73 n = S0 73 n)) → isCh U (S 71 n) E → Rn r 106 2 [some (vR (some (A 3 b))), some (vR (some wk)), some (vI (iI (D.length : Nat)))] [] h Q := by
  have b19 := QV_b j.2.1.2.1 (f := 19) (c := 120) rfl rfl rfl w
  have lenB : (stB U w b).length ≤ 120 := by
    have : (stB U w b).length ≤ (U 19 w).toNat := by
      unfold stB stL
      exact Nat.le_trans (List.length_filter_le _ _) (by rw [List.length_map, List.length_range]; exact Nat.le_refl _)
    omega
  intro E
  induction E with
  | nil =>
    intro D h v S P hD cr x pa mo wg ⟨h68, h69, kf, h70⟩ ch
    have e71 : S 71 n = -1 := ch
    obtain ⟨kb, _, lr, r0, kl, _, vl⟩ := x.gx.2.2.2.2.2.1 b hb
    have len : (vLs v lr).length = D.length := by
      rw [vl, List.length_map]
      show (stB U w b).length = _
      rw [hD, List.append_nil]
    rw [hD, List.append_nil] at lenB
    rw [sX11_walk_2, sX11_walk_3, sX11_walk_4 (cr.kk kb (by decide)), cr.rr kb rfl, r0, sX11_walk_7 (cr.kk kl (by decide)), v_size cr kl, len, Kt_v, sX11_walk_10, if_pos (by rw [iI_le (by omega) (by omega) (by omega) (by omega)]; omega), sX11_walk_41]
    exact q h v S P cr x mo wg (Or.inr ⟨h68, h69, kf, h70, by omega, Or.inr e71⟩)
  | cons s E ih =>
    intro D h v S P hD cr x pa mo wg ⟨h68, h69, kf, h70⟩ ch
    obtain ⟨e71, ch2⟩ := ch
    have sA : As w U s ∧ U 22 s = b := stB_in.mp (by rw [hD]; simp)
    have sn := As_n j sA.1
    by_cases z : S 66 0 = 0
    · obtain ⟨kb, _, lr, r0, kl, _, vl⟩ := x.gx.2.2.2.2.2.1 b hb
      have kw := x.kw
      have vl2 : vLs v lr = (D ++ s :: E).map (fun s => some (A 2 s)) := by rw [vl, ← hD]; rfl
      have len : (vLs v lr).length = D.length + (E.length + 1) := by rw [vl2, List.length_map, List.length_append, List.length_cons]
      have lb : D.length + (E.length + 1) ≤ 120 := by rw [hD, List.length_append, List.length_cons] at lenB; exact lenB
      have gt : (vLs v lr).getD ((D.length : Nat) : Int).toNat none = some (A 2 s) := by
        rw [vl2, Int.toNat_natCast]
        simp
      have ks := (x.gx.2.2.2.2.1 s sA.1).1.1
      have kh : hK h (A 2 s) = hK v.1 (A 2 s) := cr.kd (by omega)
      rw [sX11_walk_2, sX11_walk_3, sX11_walk_4 (cr.kk kb (by decide)), cr.rr kb rfl, r0, sX11_walk_7 (cr.kk kl (by decide)), v_size cr kl, len, Kt_v, sX11_walk_10, if_neg (by rw [iI_le (by omega) (by omega) (by omega) (by omega)]; omega), sX11_walk_13, sX11_walk_14 (cr.kk kw (by decide)), wk_goes cr x.1, Kt_v, sX11_walk_17, if_neg (by rw [bI_t ⟨h68, z⟩]; decide), sX11_walk_20, sX11_walk_21 (cr.kk kb (by decide)), cr.rr kb rfl, r0, sX11_walk_24, sX11_walk_25 (cr.kk kl (by decide)), v_get cr kl (by omega) (by rw [len]; omega), Kt_v, gt, sX11_walk_28 (by rw [kh]; exact mem_k ks), sX11_walk_31, sX11_walk_32 (by rw [kh]; exact ks.1) (by rw [kh]; exact ks.2), eX12_step, sX12_step_0, sX12_step_1 (cr.kk kw (by decide))]
      have b27 : U 20 s = 4 ∨ U 20 s = 5 ∨ U 20 s = 6 ∨ U 20 s = 9 ∨ U 20 s = 11 → Ab w U (U 27 s) := fun y => (bo27 j sA.1 (by omega)).1
      have wgb := WG_begin (U := U) (w := w) (n := n) (x.wr (by omega)) h69 n0 h68 x.1.2.2.2.2.2.2.1 e71 sA.1 sn.1 sn.2 z b27
      have x1 : WV R A T w p0 U c l wk P v0 v (up S 71 n (U 24 s)) := WV_cg x (fun f hf => up_n (by omega))
      have e65 : up S 71 n (U 24 s) 65 0 = S 65 0 := by rw [up_n (by decide)]
      have ej : iI ((D.length : Nat) : Int) + (1 : Int32) = iI ((D ++ [s]).length : Nat) := by
        rw [i_1, iI_add, List.length_append, List.length_singleton]
        rfl
      refine wk_step cr x1 (by rw [up_n (by decide)]; exact h68) (fun hz h2 v2 c2 x2 => ?_) (fun hz h2 v2 c2 x2 => ?_)
      · rw [e65] at hz
        rw [if_pos hz] at wgb
        rw [Kt_v, sX12_step_4, if_pos rfl, sX12_step_12, Kt_0, sX11_walk_35, ej, sX11_walk_38]
        have h681 : tStpS (up S 71 n (U 24 s)) 68 0 = 1 := by
          unfold tStpS
          simp only [up_eq, true_and, false_and, and_true, and_false, and_self, if_true, if_false, eq_self, Nat.reduceEqDiff, reduceIte]
          rw [if_pos hz]
        have h691 : tStpS (up S 71 n (U 24 s)) 69 0 = n + 1 := by
          rw [tStpS_o (by decide) (by decide), up_n (by decide)]
          exact h69
        exact bw_exit c2 x2 hb (Or.inl h681) (q h2 v2 _ P c2 x2 mo (wg.tr wgb) (Or.inl ⟨h681, by omega, by omega⟩))
      · rw [e65] at hz
        rw [if_neg hz] at wgb
        rw [Kt_v, sX12_step_4, if_neg (by decide)]
        have o : ∀ f, f ≠ 65 → f ≠ 68 → tStpS (up S 71 n (U 24 s)) f = up S 71 n (U 24 s) f := fun f h1 h2 => tStpS_o h1 h2
        have f68 : tStpS (up S 71 n (U 24 s)) 68 0 = 0 := by
          unfold tStpS
          simp only [up_eq, true_and, false_and, and_true, and_false, and_self, if_true, if_false, eq_self, Nat.reduceEqDiff, reduceIte]
          rw [if_neg hz]
        refine sw s sA.1 sA.2 h2 v2 _ P (n + 1) _ c2 x2 ⟨?_, f68, ?_, ?_⟩ ?_ (fun h3 v3 S3 P3 c3 x3 mo3 wg3 se => ?_)
        · rw [o 66 (by decide) (by decide), up_n (by decide)]; exact z
        · rw [o 69 (by decide) (by decide), up_n (by decide)]; exact h69
        · rw [sA.2]; exact ⟨by omega, gb⟩
        · rw [sA.2]; exact pa
        · rw [Kt_0, sX11_walk_35, ej, sX11_walk_38]
          have wg4 := (wg.tr wgb).tr wg3
          rcases se with se | ⟨t68, t69, tk⟩
          · exact bw_exit c3 x3 hb (Or.inl se.1) (q h3 v3 S3 P3 c3 x3 (fun k hk => mo3 k (mo k hk)) wg4 (Or.inl se))
          · obtain ⟨t1, t2, t3, t4⟩ := tk n (by omega)
            rw [o 70 (by decide) (by decide), up_n (by decide)] at t1
            rw [o 71 (by decide) (by decide), up_s] at t2
            rw [o 72 (by decide) (by decide), up_n (by decide)] at t3
            rw [o 73 (by decide) (by decide), up_n (by decide)] at t4
            refine ih (D ++ [s]) h3 v3 S3 P3 (by rw [hD, List.append_assoc]; rfl) c3 x3 (fun k hk a e => mo3 _ (pa k hk a e)) (fun k hk => mo3 k (mo k hk)) wg4 ⟨t68, t69, kf.tr (fun k hk => ?_), t1.trans h70.1, t3.trans h70.2.1, t4.trans h70.2.2⟩ (by rw [t2]; exact ch2)
            obtain ⟨u1, u2, u3, u4⟩ := tk k (by omega)
            rw [o 70 (by decide) (by decide), up_n (by decide)] at u1
            rw [o 71 (by decide) (by decide), up_eq, if_neg (by omega)] at u2
            rw [o 72 (by decide) (by decide), up_n (by decide)] at u3
            rw [o 73 (by decide) (by decide), up_n (by decide)] at u4
            exact ⟨u1, u2, u3, u4⟩
    · exact bw_exit cr x hb (Or.inr z) (q h v S P cr x mo wg (Or.inr ⟨h68, h69, kf, h70, by omega, Or.inl z⟩))
theorem c_bwalk (j : JP w g U c l) (hr : ∀ s, As w U s → 9 - g (U 22 s) ≤ r → SWC r R A T w p0 g U c l wk v0 s) : BWC r R A T w p0 g U c l wk v0 := by
  intro h v S P b n Q cr x ⟨h66, h68, h69, gb⟩ hb h9 pa q
  have zg := j.1.2.2.2.2 b hb
  have n0 : 0 ≤ n := gb.1
  have n7 : n ≤ 7 := by omega
  have ch := (j.1.2.2.2.1 b hb).1
  have x1 : WV R A T w p0 U c l wk P v0 v (tPush U b S) := WV_cg x (fun f hf => tPush_o (by omega))
  rw [eX11_walk, sX11_walk_0, sX11_walk_1, i_0]
  refine bw_loop (S0 := S) (P0 := P) j (fun s hs e => hr s hs (by rw [e]; exact h9)) hb gb.2 n0 n7 q (stB U w b) [] h v (tPush U b S) P rfl cr x1 pa (fun _ y => y) WGo.rf ⟨?_, ?_, fun k hk => ?_, ?_, ?_, ?_⟩ ?_
  · rw [tPush_o (by omega)]; exact h68
  · unfold tPush; rw [up_s, h69]
  · rw [tPush_o (f := 72) (by omega), tPush_o (f := 73) (by omega)]
    have a70 : tPush U b S 70 k = S 70 k := by
      unfold tPush
      rw [up_n (by decide), up_n (by decide), up_ne2 (by omega)]
    have a71 : tPush U b S 71 k = S 71 k := by
      unfold tPush
      rw [up_n (by decide), up_ne2 (by omega), up_n (by decide)]
    exact ⟨a70, a71, rfl, rfl⟩
  · unfold tPush
    rw [up_n (by decide), up_n (by decide), up_eq, if_pos ⟨rfl, h69.symm⟩]
  · rw [tPush_o (f := 72) (by omega)]
  · rw [tPush_o (f := 73) (by omega)]
  · have : tPush U b S 71 n = U 45 b := by
      unfold tPush
      rw [up_n (by decide), up_eq, if_pos ⟨rfl, h69.symm⟩]
    rw [this]
    exact ch
end WBL
