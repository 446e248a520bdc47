/-! COMPONENT, 17: leave *-/
/-- a break in the making: its loop, its tries -/
def BK (v : vT) (ba bt : Nat) (lp : Option Nat) (L : List (Option Nat)) : Prop := hK v.1 ba = 35 ∧ hR v.1 ba 5 = lp ∧ hR v.1 ba 6 = some bt ∧ hK v.1 bt = 4 ∧ vLs v bt = L
def Xl (ba bt : Nat) (a k : Nat) : Prop := (a = ba ∧ k = 5) ∨ (a = bt ∧ k = 99)
/-- the tries between a place and its loop -/
def tTr (U : tSt) : Nat → Int → List Int
  | 0, _ => []
  | d + 1, b => if U 41 b = 0 ∨ U 41 b = 1 ∨ U 41 b = 8 then [] else if U 41 b = 4 then [] else (if U 41 b = 5 ∨ U 41 b = 6 then [U 42 b] else []) ++ tTr U d (U 22 (U 42 b))
def oL (o : Option Nat) : List (Option Nat) := match o with
  | none => []
  | some a => [some a]
section LVS
variable {r rd ba bt a : Nat} {h : am_H} {v v' : vT} {U : tSt} {A : Nat → Int → Nat} {L : List (Option Nat)} {Q : am_O → am_H → Prop} {l0 l2 : Option am_V} {ou lp pa hd : Option Nat}
theorem BK_end (c : CR h v) (bk : BK v ba bt (some a) L) {z : Option Nat} : Rn r 224 2 [l0, some (vR (some ba)), l2, some (vR z)] [] h Q ↔ Rn r 224 55 [l0, some (vR (some ba)), l2, some (vR z)] [] h Q := by
  obtain ⟨b1, b2, b3, b4, b5⟩ := bk
  rw [sX1_leave_2, sX1_leave_3]
  by_cases e : z = none
  · rw [if_pos e]
  · rw [if_neg e, sX1_leave_6, sX1_leave_7 (c.kk b1 (by decide)), c.rr b1 rfl, b2, sX1_leave_10, if_pos (by simp)]
theorem lv_step (c : CR h v) (ao : AO v a ou lp pa false hd) (bk : BK v ba bt none L) (okh : ∀ t, hd = some t → 0 < hK v.1 t ∧ hK v.1 t < 40) (hl : L.length ≤ 10)
    (q : ∀ h' v', CR h' v' → Fw (Xl ba bt) v v' → BK v' ba bt lp (L ++ oL hd) → hN v'.1 ≤ hN v.1 + (oL hd).length → hS v.1 ≤ hS v'.1 → hS v'.1 ≤ hS v.1 + (oL hd).length * 30 → Rn r 224 2 [l0, some (vR (some ba)), l2, some (vR ou)] [] h' Q) :
    Rn r 224 2 [l0, some (vR (some ba)), l2, some (vR (some a))] [] h Q := by
  obtain ⟨a1, a2, a3, a4, a5, a6⟩ := ao
  obtain ⟨b1, b2, b3, b4, b5⟩ := bk
  have ka := c.kk a1 (by decide)
  have kb := c.kk b1 (by decide)
  have nba : a ≠ ba := fun z => by rw [z, b1] at a1; exact absurd a1 (by decide)
  have nbt : a ≠ bt := fun z => by rw [z, b4] at a1; exact absurd a1 (by decide)
  have ntb : bt ≠ ba := fun z => by rw [z, b1] at b4; exact absurd b4 (by decide)
  rw [sX1_leave_2, sX1_leave_3, if_neg (by simp), sX1_leave_6, sX1_leave_7 kb, c.rr b1 rfl, b2, sX1_leave_10, if_neg (fun z => z rfl), sX1_leave_13, sX1_leave_14 ka, c.ii a1 rfl, a5, sX1_leave_17, if_neg (fun z => z rfl), sX1_leave_20, sX1_leave_21 ka, c.rr a1 rfl, a6, sX1_leave_24]
  have fin : ∀ h1 v1, CR h1 v1 → Fw (fun x k => x = bt ∧ k = 99) v v1 → vLs v1 bt = L ++ oL hd → hN v1.1 ≤ hN v.1 + (oL hd).length → hS v.1 ≤ hS v1.1 → hS v1.1 ≤ hS v.1 + (oL hd).length * 30 → Rn r 224 39 [l0, some (vR (some ba)), l2, some (vR (some a))] [] h1 Q := by
    intro h1 v1 c1 f1 e1 n1 s0 s1
    have a1' := f1.kk a1 (by decide)
    have b1' := f1.kk b1 (by decide)
    have b4' := f1.kk b4 (by decide)
    have ga := fun k => (f1.ff (k := k) (hK_lt a1 (by decide)) (fun z => nbt z.1)).2.2
    have gb : hR v1.1 ba 6 = some bt := by rw [(f1.ff (hK_lt b1 (by decide)) (fun z => absurd z.2 (by decide))).2.2]; exact b3
    rw [sX1_leave_39, sX1_leave_40, sX1_leave_41 (c1.kk a1' (by decide)), c1.rr a1' rfl, ga, a3, sX1_leave_44 (c1.kk b1' (by decide)), sX1_leave_47, sX1_leave_48 (by rw [hK_putR]; exact c1.kk a1' (by decide)), hR_putR, if_neg (fun z => nba z.1), c1.rr a1' rfl, ga, a2, sX1_leave_51, sX1_leave_52]
    refine q _ _ (CR_pR c1 b1' rfl) ((f1.mono (fun _ _ z => Or.inr z)).pR (Or.inr (Or.inl ⟨rfl, rfl⟩))) ⟨b1', ?_, ?_, b4', e1⟩ n1 s0 s1
    · rw [vpR_1, hR_putR, if_pos ⟨rfl, rfl⟩]
    · rw [vpR_1, hR_putR, if_neg (by omega)]
      exact gb
  cases hh : hd with
  | none =>
    rw [if_pos rfl]
    rw [hh] at fin
    exact fin h v c Fw.refl (by rw [b5]; simp [oL]) (by omega) (by omega) (by omega)
  | some t =>
    rw [if_neg (by simp), sX1_leave_27, sX1_leave_28 kb, c.rr b1 rfl, b3, sX1_leave_31, sX1_leave_32 ka, c.rr a1 rfl, a6, hh, sX1_leave_35 (c.kk b4 (by decide))]
    refine v_add c b4 (z := some t) (okh t hh) (by rw [b5]; omega) (fun h1 n' s' c' c1 g => ?_)
    obtain ⟨g1, g2, g3, g4, g5, g6, g7, g8⟩ := grw_b g (c.cp b4)
    rw [b5] at g7
    rw [Kt_v, sX1_leave_38]
    rw [hh] at fin
    exact fin h1 _ c1 ((Fw.refl.bm g1).sL (Or.inr ⟨rfl, rfl⟩)) (by rw [vLs_sL, if_pos rfl, b5]; rfl) g2 g3 (by show s' ≤ hS v.1 + 1 * 30; omega)
theorem BK_fw {X : Nat → Nat → Prop} (f : Fw X v v') (h1 : ¬ X ba 5) (h2 : ¬ X ba 6) (h3 : ¬ X bt 99) (x : BK v ba bt lp L) : BK v' ba bt lp L := by
  obtain ⟨b1, b2, b3, b4, b5⟩ := x
  exact ⟨f.kk b1 (by decide), by rw [(f.ff (hK_lt b1 (by decide)) h1).2.2]; exact b2, by rw [(f.ff (hK_lt b1 (by decide)) h2).2.2]; exact b3, f.kk b4 (by decide), by rw [(f.cc (hK_lt b4 (by decide)) h3).1]; exact b5⟩
theorem c_lvL : ∀ (d : Nat) (b : Int) (o : Option Nat) (L : List (Option Nat)) (h : am_H) (v : vT), CR h v → AR v A U d b o → BK v ba bt none L → L.length + (tTr U d b).length ≤ 10 → (∀ s, s ∈ tTr U d b → 0 < hK v.1 (A 2 s) ∧ hK v.1 (A 2 s) < 40) →
    (∀ h' v' z, CR h' v' → Fw (Xl ba bt) v v' → BK v' ba bt (optA (A 2) (tTg U d b)) (L ++ (tTr U d b).map (fun s => some (A 2 s))) → hN v'.1 ≤ hN v.1 + (tTr U d b).length → hS v.1 ≤ hS v'.1 → hS v'.1 ≤ hS v.1 + (tTr U d b).length * 30 → Rn r 224 55 [l0, some (vR (some ba)), l2, z] [] h' Q) →
    Rn r 224 2 [l0, some (vR (some ba)), l2, some (vR o)] [] h Q := by
  intro d
  induction d with
  | zero => intro b o L h v c z; exact z.elim
  | succ d ih =>
    intro b o L h v c x0 bk hl okh q
    rw [AR] at x0
    obtain ⟨b0, x0⟩ := x0
    have fx : ∀ {w0 : vT}, BK w0 ba bt none L ∨ hK w0.1 ba = 35 ∧ hK w0.1 bt = 4 → ∀ a k, Xl ba bt a k → hK w0.1 a ≠ 20 ∧ (hK w0.1 a = 22 → k ≠ 2) ∧ (k = 99 → hK w0.1 a ≠ 10) := fun {w0} hw a k z => by
      have h1 : hK w0.1 ba = 35 := hw.elim (fun y => y.1) (fun y => y.1)
      have h2 : hK w0.1 bt = 4 := hw.elim (fun y => y.2.2.2.1) (fun y => y.2)
      rcases z with z | z <;> rw [z.1] <;> omega
    rw [tTr] at hl okh q
    rw [tTg] at q
    rcases x0 with ⟨x1, x2, a, rfl, x3⟩ | ⟨x1, x2, x3⟩ | ⟨x1, x2, a, o', rfl, x4, x5⟩ | ⟨x1, x2, a, o', rfl, x4, x5⟩ | ⟨x1, x2, a, o', rfl, x4, x5⟩ | ⟨x1, x2, a, a2, o', rfl, x4, x5, x6, x7, x8⟩ | ⟨x1, x2, a, o', rfl, x4, x5⟩
    · rw [if_pos (Or.inl x1), if_pos (Or.inl x1)] at q
      rw [if_pos (Or.inl x1)] at hl
      refine lv_step c x3 bk (fun t z => absurd z (by simp)) (by simp only [List.length_nil] at hl; omega) (fun h1 v1 c1 f1 k1 n1 s0 s1 => ?_)
      rw [sX1_leave_2, sX1_leave_3, if_pos rfl]
      simp only [oL, List.append_nil, List.length_nil, Nat.zero_mul, Nat.add_zero] at k1 n1 s1
      exact q h1 v1 _ c1 f1 (by simpa [optA] using k1) (by simpa using n1) s0 (by simpa using s1)
    · have r1 : ¬ (U 41 b = 0 ∨ U 41 b = 1 ∨ U 41 b = 8) := by omega
      have r2 : ¬ U 41 b = 4 := by omega
      have r3 : ¬ (U 41 b = 5 ∨ U 41 b = 6) := by omega
      rw [if_neg r1, if_neg r2, if_neg r3, List.nil_append] at hl okh
      rw [if_neg r1, if_neg r2, if_neg r1, if_neg r2, if_neg r3, List.nil_append] at q
      exact ih _ _ _ h v c x3 bk hl okh q
    · have r1 : ¬ (U 41 b = 0 ∨ U 41 b = 1 ∨ U 41 b = 8) := by omega
      rw [if_neg r1, if_pos x1, if_neg r1, if_pos x1] at q
      rw [if_neg r1, if_pos x1] at hl
      refine lv_step c x4 bk (fun t z => absurd z (by simp)) (by simp only [List.length_nil] at hl; omega) (fun h1 v1 c1 f1 k1 n1 s0 s1 => ?_)
      simp only [oL, List.append_nil, List.length_nil, Nat.zero_mul, Nat.add_zero] at k1 n1 s1
      rw [BK_end c1 k1]
      exact q h1 v1 _ c1 f1 (by rw [optA_s x2]; simpa using k1) (by simpa using n1) s0 (by simpa using s1)
    · have r1 : U 41 b = 0 ∨ U 41 b = 1 ∨ U 41 b = 8 := by omega
      rw [if_pos r1, if_pos r1] at q
      have kb := c.kk bk.1 (by decide)
      rw [sX1_leave_2, sX1_leave_3, if_neg (by simp), sX1_leave_6, sX1_leave_7 kb, c.rr bk.1 rfl, bk.2.1, sX1_leave_10, if_neg (fun z => z rfl), sX1_leave_13, sX1_leave_14 (c.kk x4.1 (by decide)), c.ii x4.1 rfl, x4.2.2.2.2.1, sX1_leave_17, if_pos (by decide)]
      exact q h v _ c Fw.refl (by simpa [optA] using bk) (by simp) (by omega) (by simp)
    · have r1 : ¬ (U 41 b = 0 ∨ U 41 b = 1 ∨ U 41 b = 8) := by omega
      have r2 : ¬ U 41 b = 4 := by omega
      have r3 : U 41 b = 5 ∨ U 41 b = 6 := by omega
      rw [if_neg r1, if_neg r2, if_pos r3] at hl okh
      rw [if_neg r1, if_neg r2, if_neg r1, if_neg r2, if_pos r3] at q
      simp only [List.length_append, List.length_singleton] at hl
      refine lv_step c x4 bk (fun t z => by rw [← Option.some.inj z]; exact okh _ (by simp)) (by omega) (fun h1 v1 c1 f1 k1 n1 s0 s1 => ?_)
      simp only [oL, List.length_singleton, Nat.one_mul] at k1 n1 s1
      refine ih _ _ _ h1 v1 c1 (AR_fw f1 (fx (Or.inl bk)) _ _ _ x5) k1 (by simp only [List.length_append, List.length_singleton]; omega) (fun s hs => ?_) (fun h2 v2 z c2 f2 k2 n2 s2 s3 => ?_)
      · have := okh s (List.mem_append_right _ hs)
        rw [(f1.2.2 _ (hK_lt rfl (by omega))).1]
        exact this
      · simp only [List.length_append, List.length_singleton, List.map_append, List.map_cons, List.map_nil] at q
        exact q h2 v2 z c2 (f1.trans f2) (by simpa using k2) (by omega) (by omega) (by omega)
    · have r1 : ¬ (U 41 b = 0 ∨ U 41 b = 1 ∨ U 41 b = 8) := by omega
      have r2 : ¬ U 41 b = 4 := by omega
      have r3 : U 41 b = 5 ∨ U 41 b = 6 := by omega
      rw [if_neg r1, if_neg r2, if_pos r3] at hl okh
      rw [if_neg r1, if_neg r2, if_neg r1, if_neg r2, if_pos r3] at q
      simp only [List.length_append, List.length_singleton] at hl
      refine lv_step c x4 bk (fun t z => absurd z (by simp)) (by omega) (fun h1 v1 c1 f1 k1 n1 s0 s1 => ?_)
      simp only [oL, List.append_nil, List.length_nil, Nat.zero_mul, Nat.add_zero] at k1 n1 s1
      have g1 := fx (Or.inl bk)
      refine lv_step c1 (AO_fw f1 (fun k z => (g1 _ _ z).1 x5.1) x5) k1 (fun t z => ?_) (by omega) (fun h2 v2 c2 f2 k2 n2 s2 s3 => ?_)
      · rw [← Option.some.inj z]
        have := okh (U 42 b) (by simp)
        rw [(f1.2.2 _ (hK_lt rfl (by omega))).1]
        exact this
      · simp only [oL, List.length_singleton, Nat.one_mul] at k2 n2 s3
        have f12 := f1.trans f2
        refine ih _ _ _ h2 v2 c2 (AR_fw f12 g1 _ _ _ x8) k2 (by simp only [List.length_append, List.length_singleton]; omega) (fun s hs => ?_) (fun h3 v3 z c3 f3 k3 n3 s4 s5 => ?_)
        · have := okh s (List.mem_append_right _ hs)
          rw [(f12.2.2 _ (hK_lt rfl (by omega))).1]
          exact this
        · simp only [List.length_append, List.length_singleton, List.map_append, List.map_cons, List.map_nil] at q
          exact q h3 v3 z c3 (f12.trans f3) (by simpa using k3) (by omega) (by omega) (by omega)
    · have r1 : ¬ (U 41 b = 0 ∨ U 41 b = 1 ∨ U 41 b = 8) := by omega
      have r2 : ¬ U 41 b = 4 := by omega
      have r3 : ¬ (U 41 b = 5 ∨ U 41 b = 6) := by omega
      rw [if_neg r1, if_neg r2, if_neg r3, List.nil_append] at hl okh
      rw [if_neg r1, if_neg r2, if_neg r1, if_neg r2, if_neg r3, List.nil_append] at q
      refine lv_step c x4 bk (fun t z => absurd z (by simp)) (by omega) (fun h1 v1 c1 f1 k1 n1 s0 s1 => ?_)
      simp only [oL, List.append_nil, List.length_nil, Nat.zero_mul, Nat.add_zero] at k1 n1 s1
      refine ih _ _ _ h1 v1 c1 (AR_fw f1 (fx (Or.inl bk)) _ _ _ x5) k1 hl (fun s hs => ?_) (fun h2 v2 z c2 f2 k2 n2 s2 s3 => ?_)
      · have := okh s hs
        rw [(f1.2.2 _ (hK_lt rfl (by omega))).1]
        exact this
      · exact q h2 v2 z c2 (f1.trans f2) k2 (by omega) (by omega) (by omega)
theorem c_leave {b tg : Int} {o : Option Nat} {d : Nat} (c : CR h v) (ar : AR v A U d b o) (bk : BK v ba bt none []) (hl : (tTr U d b).length ≤ 10) (okh : ∀ s, s ∈ tTr U d b → 0 < hK v.1 (A 2 s) ∧ hK v.1 (A 2 s) < 40) (eg : tTg U d b = tg)
    (lp : tg ≠ -1 → hK v.1 (A 2 tg) = 34 ∧ hR v.1 (A 2 tg) 7 = some (A 5 tg) ∧ hK v.1 (A 5 tg) = 4 ∧ (vLs v (A 5 tg)).length ≤ 120 ∧ A 5 tg ≠ bt)
    (q : ∀ h' v', CR h' v' → Fw (fun a k => Xl ba bt a k ∨ (tg ≠ -1 ∧ a = A 5 tg ∧ k = 99)) v v' → BK v' ba bt (optA (A 2) tg) ((tTr U d b).map (fun s => some (A 2 s))) → (tg ≠ -1 → vLs v' (A 5 tg) = vLs v (A 5 tg) ++ [some ba]) → hN v'.1 ≤ hN v.1 + (tTr U d b).length + 1 → hS v.1 ≤ hS v'.1 → hS v'.1 ≤ hS v.1 + (tTr U d b).length * 30 + 250 → Q (Sum.inl none) h') :
    Cl r 224 [vR (some rd), vR (some ba), vR o] h Q := by
  rw [eX1_leave, sX1_leave_0, sX1_leave_1]
  refine c_lvL d b o [] h v c ar bk (by simp only [List.length_nil]; omega) okh (fun h1 v1 z c1 f1 k1 n1 s0 s1 => ?_)
  rw [List.nil_append, eg] at k1
  have kb := c1.kk k1.1 (by decide)
  rw [sX1_leave_55, sX1_leave_56 kb, c1.rr k1.1 rfl, k1.2.1, sX1_leave_59]
  by_cases e : tg = -1
  · rw [if_pos (by rw [e]; rfl), sX1_leave_74]
    exact q h1 v1 c1 (f1.mono (fun _ _ => Or.inl)) k1 (fun y => absurd e y) (by omega) s0 (by omega)
  · obtain ⟨l1, l2, l3, l4, l5⟩ := lp e
    have kl := f1.kk l1 (by decide)
    have kk := f1.kk l3 (by decide)
    have nb1 : A 2 tg ≠ ba := fun y => by rw [y, bk.1] at l1; exact absurd l1 (by decide)
    have nb2 : A 2 tg ≠ bt := fun y => by rw [y, bk.2.2.2.1] at l1; exact absurd l1 (by decide)
    have nb3 : A 5 tg ≠ ba := fun y => by rw [y, bk.1] at l3; exact absurd l3 (by decide)
    have r7 : hR v1.1 (A 2 tg) 7 = some (A 5 tg) := by rw [(f1.ff (hK_lt l1 (by decide)) (fun y => by rcases y with y | y; exact nb1 y.1; exact nb2 y.1)).2.2]; exact l2
    have ls : vLs v1 (A 5 tg) = vLs v (A 5 tg) := (f1.cc (hK_lt l3 (by decide)) (fun y => by rcases y with y | y; exact nb3 y.1; exact l5 y.1)).1
    rw [optA_s e, if_neg (by simp), sX1_leave_62, sX1_leave_63 kb, c1.rr k1.1 rfl, k1.2.1, optA_s e, sX1_leave_66 (c1.kk kl (by decide)), c1.rr kl rfl, r7, sX1_leave_69, sX1_leave_70 (c1.kk kk (by decide))]
    refine v_add c1 kk (z := some ba) ⟨by rw [k1.1]; decide, by rw [k1.1]; decide⟩ (by rw [ls]; omega) (fun h2 n' s' c' c2 g => ?_)
    obtain ⟨g1, g2, g3, g4, g5, g6, g7, g8⟩ := grw_b g (c1.cp kk)
    rw [ls] at g7
    have f2 : Fw (fun a k => a = A 5 tg ∧ k = 99) v1 (vsL (vbm v1 n' s') (A 5 tg) (vLs v1 (A 5 tg) ++ [some ba]) c') := (Fw.refl.bm g1).sL (Or.inr ⟨rfl, rfl⟩)
    rw [Kt_v, sX1_leave_73, sX1_leave_74]
    refine q h2 _ c2 ((f1.mono (fun _ _ => Or.inl)).trans (f2.mono (fun _ _ y => Or.inr ⟨e, y⟩))) (BK_fw f2 (fun y => absurd y.2 (by decide)) (fun y => absurd y.2 (by decide)) (fun y => l5 y.1.symm) k1) (fun _ => by rw [vLs_sL, if_pos rfl, ls]) ?_ ?_ ?_
    · show n' ≤ _
      omega
    · show _ ≤ s'
      omega
    · show s' ≤ _
      omega
end LVS
