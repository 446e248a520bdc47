/-! COMPONENT, 113: judging a statement: its blocks, mistakes, sums *-/
abbrev GX (R : Nat → Nat) (A : Nat → Int → Nat) (T : Nat → Nat) (w p0 : Int) (v : vT) (U : tSt) : Prop := GU R A T w p0 v U (ocL U w A (stL U w (fun s => decide (U 20 s = 1)))) (clL U w A (stL U w (fun s => decide (U 20 s = 9)))) (ovL U w A (U 9 w))
/-- a statement s whose blocks Bs are judged, Z the mistakes of its own -/
def JK (R : Nat → Nat) (A : Nat → Int → Nat) (T : Nat → Nat) (w p0 : Int) (U : tSt) (c l : Int → Int) (L0 : List tMi) (Nd : List Int) (X : List tMi) (s : Int) (v0 v : vT) (N : List Int) (Z : List tMi) (Bs : List Int) : Prop :=
  SJ R A T w p0 U c l L0 v (Nd ++ N) (X ++ Z) ∧ (∀ d, d ∈ Bs → bo w U s d) ∧ JN w U N (fun x => ∃ d, d ∈ Bs ∧ anc U (U 22 x) d) ∧ JD A w U c l v (fun k => ∃ d, d ∈ Bs ∧ anc U k d) ∧ JF A w U v0 v (fun k => ∃ d, d ∈ Bs ∧ anc U k d) (fun x => x = s) ∧
  RM (R 9) v0 v (2 * ((N.flatMap (mJs U w c l)).length + Z.length : Nat)) (3 * ((N.flatMap (mJs U w c l)).length + Z.length : Nat)) ∧ Fw (XLk v0) v0 v ∧ PIN A w U c v (U 22 s)
/-- thrown(n) of s -/
def JTh (r n : Nat) (R : Nat → Nat) (A : Nat → Int → Nat) (T : Nat → Nat) (w p0 : Int) (U : tSt) (c l : Int → Int) (L0 : List tMi) (Nd : List Int) (X : List tMi) (s : Int) : Prop := ∀ (h : am_H) (v : vT) (Q : am_O → am_H → Prop), CR h v → JK R A T w p0 U c l L0 Nd X s v v [] [] [] →
  (∀ h' v' N Bs, CR h' v' → JK R A T w p0 U c l L0 Nd X s v v' N (mJ0 U w c s) Bs → (∀ d, bo w U s d → d ∈ Bs) → (U 20 s = 9 → IF A w U c v' s) → Q (Sum.inl (some (vI (iI (c s))))) h') → Cl r n [vR (some (A 2 s)), vR (some (R 3))] h Q
/-- left(n) of s -/
def JLf (r n : Nat) (R : Nat → Nat) (A : Nat → Int → Nat) (T : Nat → Nat) (w p0 : Int) (U : tSt) (c l : Int → Int) (s : Int) : Prop := ∀ (h : am_H) (v : vT) (Q : am_O → am_H → Prop), CR h v → GX R A T w p0 v U → JD A w U c l v (uB w U s) → Q (Sum.inl (some (vI (bI (lvs U w l s = true))))) h → Cl r n [vR (some (A 2 s)), vR (some (R 3))] h Q
section JKS
variable {R : Nat → Nat} {A : Nat → Int → Nat} {T : Nat → Nat} {w p0 s d : Int} {U : tSt} {c l g : Int → Int} {L0 X Z : List tMi} {v0 v v' : vT} {Nd N Bs : List Int} {r : Nat} {h : am_H} {Q : am_O → am_H → Prop}
theorem no_own (j : JP w g U c l) (hs : As w U s) (hd : bo w U s d) : ¬ anc U (U 22 s) d := fun a => uB_no j.1.2.2.2.2 j.pw hs ⟨d, hd, a⟩
theorem pin_s (j : JP w g U c l) (hs : As w U s) {k : Int} (hk : Ab w U k) (a : anc U (U 22 s) k) (z : U 41 k = 6) : As w U (U 42 k) ∧ ¬ uB w U s (U 22 (U 42 k)) ∧ U 42 k ≠ s := by
  have pw := j.pw
  have zg := j.1.2.2.2.2
  obtain ⟨n, a0⟩ := a
  have oA := (par_ab pw hk (by omega)).1
  have gk := (ancN_g zg pw n _ k (pw.1 s hs) a0).2
  have gp := (zg k hk).2.2 (by omega)
  refine ⟨oA, fun ⟨d, d1, m, d2⟩ => ?_, fun e => ?_⟩
  · have := (ancN_g zg pw m _ _ (pw.1 _ oA) d2).2
    have := bo_g zg d1
    omega
  · rw [e] at gp
    omega
theorem JK_0 (sj : SJ R A T w p0 U c l L0 v Nd X) (pin : PIN A w U c v (U 22 s)) : JK R A T w p0 U c l L0 Nd X s v v [] [] [] := by
  refine ⟨by simpa using sj, fun d hd => by simp at hd, ⟨by simp, fun x => ?_⟩, ⟨fun k _ y => ?_, fun x _ y => ?_⟩, JF.rf, ?_, Fw.refl, pin⟩
  · constructor
    · intro h; simp at h
    · rintro ⟨_, d, h, _⟩; simp at h
  · obtain ⟨d, h, _⟩ := y; simp at h
  · obtain ⟨d, h, _⟩ := y; simp at h
  · exact ⟨Nat.le_refl _, by simp, Nat.le_refl _, by simp, Nat.le_refl _⟩
/-- a block of s is judged -/
theorem jk_blk (jbc : JBC r R A T w p0 g U c l L0) (j : JP w g U c l) (hs : As w U s) (hr : 9 - g (U 22 s) ≤ (r + 1 : Nat)) (hX : X.length ≤ 100 * g (U 22 s)) (nd : ∀ x, x ∈ Nd → ¬ uB w U s (U 22 x)) (cr : CR h v) (jk : JK R A T w p0 U c l L0 Nd X s v0 v N Z Bs) (hd : bo w U s d) (nB : d ∉ Bs) (hZ : Z.length ≤ 48) (h6 : U 41 d = 6 → IF A w U c v s)
    (q : ∀ h' v' N', CR h' v' → JK R A T w p0 U c l L0 Nd X s v0 v' (N ++ N') Z (Bs ++ [d]) → hI v'.1 (A 2 s) 11 = hI v.1 (A 2 s) 11 → Q (Sum.inl none) h') : Cl r 137 [vR (some (A 3 d)), vR (some (R 3))] h Q := by
  have pw := j.pw
  have zg := j.1.2.2.2.2
  obtain ⟨sj, bb, jn, jd, jf, rm, fw, pin⟩ := jk
  have gd := bo_g zg hd
  have xd : ∀ x, As w U x → (∃ d', d' ∈ Bs ∧ anc U (U 22 x) d') → ¬ anc U (U 22 x) d := fun x hx ⟨d', d1, d2⟩ y => by
    have := (uB_un zg pw (pw.1 x hx) (bb d' d1) d2 hd y rfl).1
    exact nB (by rw [← this]; exact d1)
  have kd : ∀ k, Ab w U k → (∃ d', d' ∈ Bs ∧ anc U k d') → ¬ anc U k d := fun k hk ⟨d', d1, d2⟩ y => by
    have := (uB_un zg pw hk (bb d' d1) d2 hd y rfl).1
    exact nB (by rw [← this]; exact d1)
  refine jbc h v (Nd ++ N) (X ++ Z) d Q cr sj hd.1 (by omega) (by rw [List.length_append]; omega) (fun k hk a z => ?_) (fun x hx y => ?_) (fun h' v' N' c1 sj1 jn1 jd1 jf1 rm1 fw1 => ?_)
  · obtain ⟨n, a⟩ := a
    cases n with
    | zero =>
      have e : d = k := a
      rw [← e] at z ⊢
      rw [hd.2.1]
      exact h6 z
    | succ n =>
      have a2 := a.2
      rw [hd.2.1] at a2
      exact pin k hk ⟨n, a2⟩ z
  · rcases List.mem_append.mp hx with z | z
    · exact nd x z ⟨d, hd, y⟩
    · obtain ⟨z1, z2⟩ := (jn.2 x).mp z
      exact xd x z1 z2 y
  · have keep := jf1.2 s hs (no_own j hs hd) (fun y => y)
    refine q h' v' N' c1 ⟨by rw [← List.append_assoc]; exact sj1, fun d' hd' => ?_, ⟨?_, fun x => ?_⟩, ⟨fun k hk y => ?_, fun x hx y => ?_⟩, ?_, ?_, XLk_tr fw fw1, fun k hk a z => ?_⟩ keep.2.2
    · rcases List.mem_append.mp hd' with z | z
      · exact bb d' z
      · simp at z; rw [z]; exact hd
    · rw [List.nodup_append]
      refine ⟨jn.1, jn1.1, fun x hx y hy e => ?_⟩
      rw [← e] at hy
      obtain ⟨z1, z2⟩ := (jn.2 x).mp hx
      exact xd x z1 z2 ((jn1.2 x).mp hy).2
    · rw [List.mem_append, jn.2 x, jn1.2 x]
      constructor
      · rintro (⟨a, d', a1, a2⟩ | ⟨a, a1⟩)
        · exact ⟨a, d', by simp [a1], a2⟩
        · exact ⟨a, d, by simp, a1⟩
      · rintro ⟨a, d', a1, a2⟩
        rcases List.mem_append.mp a1 with z | z
        · exact Or.inl ⟨a, d', z, a2⟩
        · simp at z
          rw [z] at a2
          exact Or.inr ⟨a, a2⟩
    · have jd' := jd.keep jf1 pw kd (fun _ _ _ y => y)
      obtain ⟨d', a1, a2⟩ := y
      rcases List.mem_append.mp a1 with z | z
      · exact jd'.1 k hk ⟨d', z, a2⟩
      · simp at z
        rw [z] at a2
        exact jd1.1 k hk a2
    · have jd' := jd.keep jf1 pw kd (fun _ _ _ y => y)
      obtain ⟨d', a1, a2⟩ := y
      rcases List.mem_append.mp a1 with z | z
      · exact jd'.2 x hx ⟨d', z, a2⟩
      · simp at z
        rw [z] at a2
        exact jd1.2 x hx a2
    · refine (jf.tr jf1).mono (fun k _ y => ?_) pw (fun x _ y => ?_)
      · rcases y with ⟨d', y1, y2⟩ | y
        · exact ⟨d', by simp [y1], y2⟩
        · exact ⟨d, by simp, y⟩
      · rcases y with y | y
        · exact Or.inl y
        · exact y.elim
    · rw [List.flatMap_append, List.length_append]
      exact (rm.trans rm1).le (by omega) (by omega)
    · obtain ⟨oA, n1, n2⟩ := pin_s j hs hk a z
      have := jf1.2 _ oA (fun y => n1 ⟨d, hd, y⟩) (fun y => y)
      unfold IF
      rw [this.2.2]
      exact pin k hk a z
/-- mistakes of its own -/
theorem jk_mi (j : JP w g U c l) (hs : As w U s) (jk : JK R A T w p0 U c l L0 Nd X s v0 v N Z Bs) {xs E : List tMi} (e2 : E.Perm ((Nd ++ N).flatMap (mJs U w c l) ++ (X ++ Z))) (ml : ML v (R 9) (insA [] (L0 ++ E))) (f : Fw (fun b k => b = R 9 ∧ k = 99) v v') (m : MiA v v' (R 9) (insA [] (L0 ++ E)) xs) (hX : X.length ≤ 800) (hZ : (Z ++ xs).length ≤ 100) : JK R A T w p0 U c l L0 Nd X s v0 v' N (Z ++ xs) Bs ∧ ∀ t, As w U t → hI v'.1 (A 2 t) 3 = hI v.1 (A 2 t) 3 ∧ hI v'.1 (A 2 t) 4 = hI v.1 (A 2 t) 4 ∧ hI v'.1 (A 2 t) 11 = hI v.1 (A 2 t) 11 := by
  have pw := j.pw
  obtain ⟨sj, bb, jn, jd, jf, rm, fw, pin⟩ := jk
  rw [List.length_append] at hZ
  obtain ⟨sj1, rm1, fw1, jf1⟩ := SJ_mi sj e2 ml f m (by rw [List.length_append, List.length_append]; omega)
  refine ⟨⟨by rw [← List.append_assoc]; exact sj1, bb, jn, jd.keep jf1 pw (fun _ _ _ y => y) (fun _ _ _ y => y), ?_, ?_, XLk_tr fw fw1, fun k hk a z => ?_⟩, fun t ht => jf1.2 t ht (fun y => y) (fun y => y)⟩
  · exact (jf.tr jf1).mono (fun k _ y => by rcases y with y | y; exact y; exact y.elim) pw (fun x _ y => by rcases y with y | y; exact Or.inl y; exact y.elim)
  · rw [List.length_append]
    exact (rm.trans rm1).le (by omega) (by omega)
  · obtain ⟨oA, n1, n2⟩ := pin_s j hs hk a z
    unfold IF
    rw [(jf1.2 _ oA (fun y => y) (fun y => y)).2.2]
    exact pin k hk a z
/-- a sum of s -/
theorem jk_ps (j : JP w g U c l) (hs : As w U s) (jk : JK R A T w p0 U c l L0 Nd X s v0 v N Z Bs) {k : Nat} {x : Int32} (hk : k = 3 ∨ k = 4 ∨ k = 11) : JK R A T w p0 U c l L0 Nd X s v0 (vpI v (A 2 s) k x) N Z Bs ∧ (hI (vpI v (A 2 s) k x).1 (A 2 s) k = x ∧ ∀ i, i ≠ k → hI (vpI v (A 2 s) k x).1 (A 2 s) i = hI v.1 (A 2 s) i) := by
  have pw := j.pw
  have qv := j.2.1.2.1
  have b19 := QV_b qv (f := 19) (c := 120) rfl rfl rfl w
  obtain ⟨sj, bb, jn, jd, jf, rm, fw, pin⟩ := jk
  obtain ⟨sj1, rm1, fw1, jf1⟩ := SJ_ps (k := k) (x := x) sj hs b19.2 hk
  refine ⟨⟨sj1, bb, jn, jd.keep jf1 pw (fun _ _ _ y => y) (fun t ht ⟨d, d1, d2⟩ e => ?_), ?_, ?_, XLk_tr fw fw1, fun k hk a z => ?_⟩, ?_, fun i hi => ?_⟩
  · rw [e] at d2
    exact no_own j hs (bb d d1) d2
  · exact (jf.tr jf1).mono (fun k _ y => by rcases y with y | y; exact y; exact y.elim) pw (fun x _ y => by rcases y with y | y; exact Or.inl y; exact Or.inl y)
  · exact (rm.trans rm1).le (by omega) (by omega)
  · obtain ⟨oA, n1, n2⟩ := pin_s j hs hk a z
    unfold IF
    rw [(jf1.2 _ oA (fun y => y) n2).2.2]
    exact pin k hk a z
  · rw [vpI_1, hI_putI, if_pos ⟨rfl, rfl⟩]
  · rw [vpI_1, hI_putI, if_neg (fun y => hi y.2)]
/-- Statement.judge, if thrown and left of its kind are known -/
theorem jst_go (j : JP w g U c l) {n3 n12 κ : Nat} (hs : As w U s) (sj : SJ R A T w p0 U c l L0 v Nd X) (cr : CR h v) (pin : PIN A w U c v (U 22 s)) (hκ : hK v.1 (A 2 s) = κ)
    (d3 : ∀ (r : Nat) (h : am_H) (Q : am_O → am_H → Prop) (l0 l1 : Option am_V) (z0 z2 : Option Nat) (a1 : Nat), hK h a1 = κ → (Rn r 176 3 [l0, l1] [vR z0, vR (some a1), vR z2] h Q ↔ Cl r n3 [vR (some a1), vR z0] h (Kt r 176 6 [l0, l1] [vR z2] Q)))
    (d12 : ∀ (r : Nat) (h : am_H) (Q : am_O → am_H → Prop) (l0 l1 : Option am_V) (z0 z2 : Option Nat) (a1 : Nat), hK h a1 = κ → (Rn r 176 12 [l0, l1] [vR z0, vR (some a1), vR z2] h Q ↔ Cl r n12 [vR (some a1), vR z0] h (Kt r 176 15 [l0, l1] [vR z2] Q)))
    (th : JTh r n3 R A T w p0 U c l L0 Nd X s) (lf : JLf r n12 R A T w p0 U c l s)
    (q : ∀ h' v' N Y, CR h' v' → SJ R A T w p0 U c l L0 v' (Nd ++ N) Y → Y.Perm (X ++ mJ0 U w c s) → JN w U N (fun x => uB w U s (U 22 x)) → JD A w U c l v' (uB w U s) → SF A w U c l v' s ∧ (U 20 s = 9 → IF A w U c v' s) → JF A w U v v' (uB w U s) (fun x => x = s) → RM (R 9) v v' (2 * ((N.flatMap (mJs U w c l)).length + (mJ0 U w c s).length : Nat)) (3 * ((N.flatMap (mJs U w c l)).length + (mJ0 U w c s).length : Nat)) → Fw (XLk v) v v' → Q (Sum.inl none) h') : Cl r 176 [vR (some (A 2 s)), vR (some (R 3))] h Q := by
  have pw := j.pw
  have ks := (sj.1.2.2.2.2.1 s hs).1.1
  have kh : hK h (A 2 s) = κ := by rw [← hκ]; exact cr.kd (by omega)
  rw [eX12_judge, sX12_judge_0, sX12_judge_1, sX12_judge_2, d3 _ _ _ _ _ _ _ _ kh]
  refine th h v _ cr (JK_0 sj pin) (fun h1 v1 N Bs c1 jk1 cov if1 => ?_)
  have eqP : ∀ k, (∃ d, d ∈ Bs ∧ anc U k d) ↔ uB w U s k := fun k => ⟨fun ⟨d, d1, d2⟩ => ⟨d, jk1.2.1 d d1, d2⟩, fun ⟨d, d1, d2⟩ => ⟨d, cov d d1, d2⟩⟩
  have ks1 := (jk1.1.1.2.2.2.2.1 s hs).1.1
  have kk1 : hK v1.1 (A 2 s) = κ := by
    rw [(jk1.2.2.2.2.2.2.1.2.2 (A 2 s) (hK_lt rfl (by omega))).1]; exact hκ
  have kh1 : hK h1 (A 2 s) = κ := by rw [← kk1]; exact c1.kd (by omega)
  rw [Kt_v, sX12_judge_6 (by omega) (by omega), sX12_judge_9, sX12_judge_10, sX12_judge_11]
  have c2 := CR_pI (k := 3) (x := iI (c s)) c1 (n := κ) kk1 (by rw [← kk1]; exact wk_st ks1)
  obtain ⟨jk2, f3, fo⟩ := jk_ps (k := 3) (x := iI (c s)) j hs jk1 (Or.inl rfl)
  have kk2 : hK (vpI v1 (A 2 s) 3 (iI (c s))).1 (A 2 s) = κ := kk1
  have i2 := fo 11 (by decide)
  generalize (vpI v1 (A 2 s) 3 (iI (c s))) = v2 at *
  generalize (putI h1 (A 2 s) 3 (iI (c s))) = h2 at *
  have kh2 : hK h2 (A 2 s) = κ := by rw [← kk2]; exact c2.kd (by omega)
  rw [d12 _ _ _ _ _ _ _ _ kh2]
  have jd2 : JD A w U c l v2 (uB w U s) := ⟨fun k hk y => jk2.2.2.2.1.1 k hk ((eqP k).mpr y), fun x hx y => jk2.2.2.2.1.2 x hx ((eqP _).mpr y)⟩
  refine lf h2 v2 _ c2 jk2.1.1 jd2 ?_
  rw [Kt_v, sX12_judge_15 (by omega) (by omega) am_fit4, sX12_judge_18]
  have lv : bI (lvs U w l s = true) = bI (l s ≠ 0) := by
    have := (j.2.2.1 s hs).2.2
    by_cases z : l s ≠ 0
    · rw [bI_t z, bI_t (this.mp z)]
    · rw [bI_f z, bI_f (fun y => z (this.mpr y))]
  rw [lv]
  have c3 := CR_pI (k := 4) (x := bI (l s ≠ 0)) c2 (n := κ) kk2 (by rw [← kk1]; exact wk_st ks1)
  obtain ⟨jk3, f4, fo4⟩ := jk_ps (k := 4) (x := bI (l s ≠ 0)) j hs jk2 (Or.inr (Or.inl rfl))
  have g3 := fo4 3 (by decide)
  have g11 := fo4 11 (by decide)
  generalize (vpI v2 (A 2 s) 4 (bI (l s ≠ 0))) = v3 at *
  obtain ⟨sj3, _, jn3, jd3, jf3, rm3, fw3, _⟩ := jk3
  refine q _ v3 N _ c3 sj3 (List.Perm.refl _) ⟨jn3.1, fun x => ?_⟩ ⟨fun k hk y => jd3.1 k hk ((eqP k).mpr y), fun x hx y => jd3.2 x hx ((eqP _).mpr y)⟩ ⟨⟨by rw [g3]; exact f3, f4⟩, fun z => ?_⟩ (jf3.mono (fun k _ y => (eqP k).mp y) pw (fun x _ y => Or.inl y)) rm3 fw3
  · rw [jn3.2 x]
    constructor
    · rintro ⟨a, b⟩; exact ⟨a, (eqP _).mp b⟩
    · rintro ⟨a, b⟩; exact ⟨a, (eqP _).mpr b⟩
  · unfold IF
    rw [g11, i2]
    exact if1 z
end JKS
