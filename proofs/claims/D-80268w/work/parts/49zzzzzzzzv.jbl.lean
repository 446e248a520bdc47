/-! COMPONENT, 112: judging a block (137): the loop *-/
section JBL
variable {R : Nat → Nat} {A : Nat → Int → Nat} {T : Nat → Nat} {w p0 b : Int} {U : tSt} {c l g : Int → Int} {L0 X : List tMi} {v0 : vT} {Nd : List Int} {r : Nat} {Q : am_O → am_H → Prop}
theorem fold_ok : ∀ (D : List Int) (a : Int), sOk a → (∀ t, t ∈ D → sOk (c t)) → sOk (D.foldl (fun a t => sOr a (c t)) a) := by
  intro D
  induction D with
  | nil => intro a h _; exact h
  | cons t D ih => intro a h hc; exact ih _ (sOr_ok h (hc t List.mem_cons_self)) (fun q hq => hc q (List.mem_cons_of_mem _ hq))
theorem am_fit4 {p : Prop} [Decidable p] : am_fit 4 (bI p) = true := by
  unfold bI
  split <;> rfl
/-- one row more -/
theorem jl_next (j : JP w g U c l) (hb : Ab w U b) {D E : List Int} {s : Int} (hC : stB U w b = D ++ s :: E) {v1 v2 v4 : vT} {N1 N2 : List Int} {Y2 : List tMi}
    (jd1 : JD A w U c l v1 (fun k => ∃ s, s ∈ D ∧ uB w U s k)) (jsf1 : ∀ s, s ∈ D → SF A w U c l v1 s ∧ (U 20 s = 9 → IF A w U c v1 s)) (jf1 : JF A w U v0 v1 (fun k => k = b ∨ ∃ s, s ∈ D ∧ uB w U s k) (fun x => x ∈ D)) (jn1 : JN w U N1 (fun x => x ∈ D ∨ ∃ s, s ∈ D ∧ uB w U s (U 22 x))) (rm1 : RM (R 9) v0 v1 (2 * ((N1.flatMap (mJs U w c l)).length : Nat)) (3 * ((N1.flatMap (mJs U w c l)).length : Nat))) (fw1 : Fw (XLk v0) v0 v1) (pin1 : PIN A w U c v1 b)
    (hY2 : Y2.Perm (X ++ mJ0 U w c s)) (jn2 : JN w U N2 (fun x => uB w U s (U 22 x))) (jd2 : JD A w U c l v2 (uB w U s)) (sf2 : SF A w U c l v2 s ∧ (U 20 s = 9 → IF A w U c v2 s)) (jf2 : JF A w U v1 v2 (uB w U s) (fun x => x = s)) (rm2 : RM (R 9) v1 v2 (2 * ((N2.flatMap (mJs U w c l)).length + (mJ0 U w c s).length : Nat)) (3 * ((N2.flatMap (mJs U w c l)).length + (mJ0 U w c s).length : Nat))) (fw2 : Fw (XLk v1) v1 v2)
    (sj4 : SJ R A T w p0 U c l L0 v4 ((Nd ++ N1) ++ N2) Y2) (z2 : hI v4.1 (A 3 b) 2 = iI ((D ++ [s]).foldl (fun a t => sOr a (c t)) 0)) (z3 : hI v4.1 (A 3 b) 3 = bI (l s ≠ 0)) (jf4 : JF A w U v2 v4 (fun d => d = b) (fun _ => False)) (kp : ∀ t, As w U t → hI v4.1 (A 2 t) 3 = hI v2.1 (A 2 t) 3 ∧ hI v4.1 (A 2 t) 4 = hI v2.1 (A 2 t) 4 ∧ hI v4.1 (A 2 t) 11 = hI v2.1 (A 2 t) 11) (rm4 : RM (R 9) v2 v4 0 0) (fw4 : Fw (XLk v2) v2 v4) :
    JL R A T w p0 U c l L0 b v0 Nd X (D ++ [s]) v4 (N1 ++ N2) (mJ0 U w c s) := by
  have pw := j.pw
  obtain ⟨⟨za, zb, zc, zd, zg⟩, ⟨pq, qv, qw, w0⟩, jc, _⟩ := id j
  have hC' : stL U w (fun s => decide (U 22 s = b)) = D ++ s :: E := hC
  have sA : As w U s ∧ U 22 s = b := stB_in.mp (by rw [hC]; simp)
  have rowA : ∀ t, t ∈ D → As w U t ∧ U 22 t = b := fun t ht => stB_in.mp (by rw [hC]; simp [ht])
  have sD : s ∉ D := fun hm => by
    have := stL_nodup (U := U) (w := w) (p := fun s => decide (U 22 s = b))
    rw [hC', List.nodup_append] at this
    exact this.2.2 s hm s (by simp) rfl
  have dis : ∀ t k, t ∈ D → Ab w U k → uB w U t k → ¬ uB w U s k := fun t k ht hk h1 h2 => by
    obtain ⟨d, d1, d2⟩ := h1
    obtain ⟨d', d1', d2'⟩ := h2
    have := (uB_un zg pw hk d1 d2 d1' d2' (by rw [(rowA t ht).2, sA.2])).2
    exact sD (by rw [← this]; exact ht)
  have nob : ∀ t, As w U t → U 22 t = b → ¬ uB w U t b := fun t ht e => by
    have := uB_no zg pw ht
    rw [e] at this
    exact this
  have kf : ∀ t, As w U t → ¬ uB w U s (U 22 t) → t ≠ s → hI v4.1 (A 2 t) 3 = hI v1.1 (A 2 t) 3 ∧ hI v4.1 (A 2 t) 4 = hI v1.1 (A 2 t) 4 ∧ hI v4.1 (A 2 t) 11 = hI v1.1 (A 2 t) 11 := fun t ht n1 n2 => by
    obtain ⟨a1, a2, a3⟩ := jf2.2 t ht n1 n2
    obtain ⟨b1, b2, b3⟩ := kp t ht
    exact ⟨b1.trans a1, b2.trans a2, b3.trans a3⟩
  have bf : ∀ k, Ab w U k → k ≠ b → hI v4.1 (A 3 k) 2 = hI v2.1 (A 3 k) 2 ∧ hI v4.1 (A 3 k) 3 = hI v2.1 (A 3 k) 3 := fun k hk n => jf4.1 k hk n
  refine ⟨?_, ⟨z2, ?_⟩, ⟨⟨fun k hk y => ?_, fun x hx y => ?_⟩, fun t ht => ?_⟩, ?_, Or.inr ⟨D, s, rfl, ?_, List.Perm.refl _⟩, ?_, XLk_tr (XLk_tr fw1 fw2) fw4, fun k hk a z => ?_⟩
  · rw [← List.append_assoc]
    exact SJ_perm sj4 hY2
  · rw [z3, List.getLastD_concat]
    by_cases z : l s ≠ 0
    · rw [bI_t z, bI_t (Or.inr z)]
    · rw [bI_f z, bI_f (fun y => by
        rcases y with y | y
        · simp at y
        · exact z y)]
  · obtain ⟨t, t1, t2⟩ := y
    unfold BF
    rcases List.mem_append.mp t1 with t1 | t1
    · have tA := rowA t t1
      obtain ⟨b1, b2⟩ := bf k hk (fun e => by rw [e] at t2; exact nob t tA.1 tA.2 t2)
      obtain ⟨a1, a2⟩ := jf2.1 k hk (dis t k t1 hk t2)
      rw [b1, b2, a1, a2]
      exact jd1.1 k hk ⟨t, t1, t2⟩
    · simp at t1
      rw [t1] at t2
      obtain ⟨b1, b2⟩ := bf k hk (fun e => by rw [e] at t2; exact nob s sA.1 sA.2 t2)
      rw [b1, b2]
      exact jd2.1 k hk t2
  · obtain ⟨t, t1, t2⟩ := y
    unfold SF IF
    rcases List.mem_append.mp t1 with t1 | t1
    · have tA := rowA t t1
      obtain ⟨a1, a2, a3⟩ := kf x hx (dis t _ t1 (pw.1 x hx) t2) (fun e => by
        rw [e, sA.2] at t2
        exact nob t tA.1 tA.2 t2)
      rw [a1, a2, a3]
      exact jd1.2 x hx ⟨t, t1, t2⟩
    · simp at t1
      rw [t1] at t2
      obtain ⟨a1, a2, a3⟩ := kp x hx
      rw [a1, a2, a3]
      exact jd2.2 x hx t2
  · unfold SF IF
    rcases List.mem_append.mp ht with t1 | t1
    · have tA := rowA t t1
      obtain ⟨a1, a2, a3⟩ := kf t tA.1 (by rw [tA.2]; exact nob s sA.1 sA.2) (fun e => sD (by rw [← e]; exact t1))
      rw [a1, a2, a3]
      exact jsf1 t t1
    · simp at t1
      obtain ⟨a1, a2, a3⟩ := kp s sA.1
      rw [t1, a1, a2, a3]
      exact sf2
  · refine ((jf1.tr jf2).tr jf4).mono (fun k _ y => ?_) pw (fun x _ y => ?_)
    · rcases y with (((y | ⟨t, t1, t2⟩) | y) | y)
      · exact Or.inl y
      · exact Or.inr ⟨t, by simp [t1], t2⟩
      · exact Or.inr ⟨s, by simp, y⟩
      · exact Or.inl y
    · rcases y with ((y | y) | y)
      · exact Or.inl (by simp [show x ∈ D from y])
      · exact Or.inl (by simp [show x = s from y])
      · exact y.elim
  · refine ⟨?_, fun x => ?_⟩
    · rw [List.nodup_append]
      refine ⟨jn1.1, jn2.1, fun x hx y hy e => ?_⟩
      rw [← e] at hy
      have y2 : uB w U s (U 22 x) := ((jn2.2 x).mp hy).2
      obtain ⟨xA, z⟩ := (jn1.2 x).mp hx
      rcases z with z | ⟨t, t1, t2⟩
      · rw [(rowA x z).2] at y2
        exact nob s sA.1 sA.2 y2
      · exact dis t _ t1 (pw.1 x xA) t2 y2
    · rw [List.mem_append, jn1.2 x, jn2.2 x]
      constructor
      · rintro (⟨h1, h2 | ⟨t, t1, t2⟩⟩ | ⟨h1, h2⟩)
        · exact ⟨h1, Or.inl h2⟩
        · exact ⟨h1, Or.inr ⟨t, by simp [t1], t2⟩⟩
        · exact ⟨h1, Or.inr ⟨s, by simp, h2⟩⟩
      · rintro ⟨h1, h2 | ⟨t, t1, t2⟩⟩
        · exact Or.inl ⟨h1, Or.inl h2⟩
        · rcases List.mem_append.mp t1 with t1 | t1
          · exact Or.inl ⟨h1, Or.inr ⟨t, t1, t2⟩⟩
          · simp at t1
            rw [t1] at t2
            exact Or.inr ⟨h1, t2⟩
  · rw [List.flatMap_append, List.length_append]
    exact ((rm1.trans rm2).trans rm4).le (by omega) (by omega)
  · have oA := (par_ab pw hk (by omega)).1
    obtain ⟨n, a0⟩ := a
    have gk := (ancN_g zg pw n b k hb a0).2
    have gp := (zg k hk).2.2 (by omega)
    have no : ¬ uB w U s (U 22 (U 42 k)) := fun ⟨d, d1, m, d2⟩ => by
      have := (ancN_g zg pw m _ _ (pw.1 _ oA) d2).2
      have := bo_g zg d1
      rw [sA.2] at this
      omega
    obtain ⟨a1, a2, a3⟩ := kf _ oA no (fun e => by
      rw [e, sA.2] at gp
      omega)
    unfold IF
    rw [a3]
    exact pin1 k hk ⟨n, a0⟩ z
theorem jb_loop (jsc : JSC (r + 1) R A T w p0 g U c l L0) (j : JP w g U c l) (hb : Ab w U b) (hr : 9 - g b ≤ (r + 1 : Nat)) (hX : X.length ≤ 100 * g b) (nd : ∀ x, x ∈ Nd → ¬ anc U (U 22 x) b) (q : ∀ h' v' N, CR h' v' → SJ R A T w p0 U c l L0 v' (Nd ++ N) X → JN w U N (fun x => anc U (U 22 x) b) → JD A w U c l v' (fun k => anc U k b) → JF A w U v0 v' (fun k => anc U k b) (fun _ => False) → RM (R 9) v0 v' (2 * ((N.flatMap (mJs U w c l)).length : Nat)) (3 * ((N.flatMap (mJs U w c l)).length : Nat)) → Fw (XLk v0) v0 v' → Q (Sum.inl none) h') :
    ∀ (E D : List Int) (h : am_H) (v : vT) (N : List Int) (Y : List tMi) (l3 : Option am_V), stB U w b = D ++ E → CR h v → JL R A T w p0 U c l L0 b v0 Nd X D v N Y → Rn (r + 1) 137 12 [some (vR (some (A 3 b))), some (vR (some (R 3))), some (vI (iI D.length)), l3] [] h Q := by
  have pw := j.pw
  obtain ⟨⟨za, zb, zc, zd, zg⟩, ⟨pq, qv, qw, w0⟩, jc, _⟩ := id j
  have b19 := QV_b qv (f := 19) (c := 120) rfl rfl rfl w
  have sl := stB_len (U := U) (w := w) (b := b) b19
  have gb := zg b hb
  intro E
  induction E with
  | nil =>
    intro D h v N Y l3 hC cr jl
    obtain ⟨sj, ⟨f2, f3⟩, ⟨jd, jsf⟩, jf, hN, rm, fw, pin⟩ := id jl
    rw [List.append_nil] at hC
    obtain ⟨kb, _, lr, r0, kl, _, lv⟩ := sj.1.2.2.2.2.2.1 b hb
    have len : (vLs v lr).length = D.length := by rw [lv, List.length_map]; exact congrArg List.length hC
    rw [hC] at sl
    rw [sX11_judge_12, sX11_judge_13, sX11_judge_14 (cr.kk kb (by decide)), cr.rr kb rfl, r0, sX11_judge_17 (cr.kk kl (by decide)), v_size cr kl, Kt_v, sX11_judge_20, len, if_pos (by rw [iI_le (by omega) (by omega) (by omega) (by omega)]; exact Int.le_refl _), sX11_judge_85]
    have e46 := (zd b hb).2
    rw [hC] at e46
    have rowA : ∀ t, t ∈ D → As w U t ∧ U 22 t = b := fun t ht => stB_in.mp (by rw [hC]; exact ht)
    have top : ∀ k, Ab w U k → (anc U k b ↔ k = b ∨ ∃ s, s ∈ D ∧ uB w U s k) := fun k hk => by
      rw [anc_top pw hk]
      constructor
      · rintro (h | ⟨s, s1, s2, s3⟩)
        · exact Or.inl h
        · exact Or.inr ⟨s, by rw [← hC]; exact stB_in.mpr ⟨s1, s2⟩, s3⟩
      · rintro (h | ⟨s, s1, s3⟩)
        · exact Or.inl h
        · exact Or.inr ⟨s, (rowA s s1).1, (rowA s s1).2, s3⟩
    have bf : BF A w U c l v b := by
      refine ⟨by rw [f2, bC_l zd hb w0.1 b19, hC], ?_⟩
      rw [f3]
      have hb1 := hb.1
      unfold isL
      rw [decide_eq_true (p := b ≠ -1) (by omega), Bool.true_and, e46]
      rcases hN with ⟨hD, _⟩ | ⟨D', p, hD, _⟩
      · rw [hD]
        rw [bI_t (Or.inl rfl), bI_t (by rfl)]
      · have pA := (rowA p (by rw [hD]; simp)).1.1
        rw [hD, List.getLastD_concat, List.getLastD_concat]
        by_cases z : l p ≠ 0
        · rw [bI_t (Or.inr z), bI_t (by simp [z])]
        · rw [bI_f (fun y => by
            rcases y with y | y
            · simp at y
            · exact z y), bI_f (by simp; constructor; omega; exact Classical.byContradiction fun y => z y)]
    have jd' : JD A w U c l v (fun k => anc U k b) := by
      refine ⟨fun k hk a => ?_, fun x hx a => ?_⟩
      · rcases (top k hk).mp a with e | e
        · rw [e]; exact bf
        · exact jd.1 k hk e
      · rcases (top _ (pw.1 x hx)).mp a with e | e
        · exact jsf x (by rw [← hC]; exact stB_in.mpr ⟨hx, e⟩)
        · exact jd.2 x hx e
    have jf' : JF A w U v0 v (fun k => anc U k b) (fun _ => False) := jf.mono (fun k hk y => (top k hk).mpr y) pw (fun x hx y => Or.inr (by rw [(rowA x y).2]; exact anc_rf))
    have jnE : ∀ x, As w U x → (anc U (U 22 x) b ↔ x ∈ D ∨ ∃ s, s ∈ D ∧ uB w U s (U 22 x)) := fun x hx => by
      rw [top _ (pw.1 x hx)]
      constructor
      · rintro (e | e)
        · exact Or.inl (by rw [← hC]; exact stB_in.mpr ⟨hx, e⟩)
        · exact Or.inr e
      · rintro (e | e)
        · exact Or.inl (rowA x e).2
        · exact Or.inr e
    rcases hN with ⟨hD, hN, hY⟩ | ⟨D', p, hD, hJ, hY⟩
    · refine q h v N cr (by rw [hY, List.append_nil] at sj; exact sj) ⟨by rw [hN]; simp, fun x => ?_⟩ jd' jf' (by rw [hY] at rm; simpa using rm) fw
      rw [hN]
      constructor
      · intro h; simp at h
      · rintro ⟨h1, h2⟩
        rcases (jnE x h1).mp h2 with z | ⟨t, z, _⟩
        · rw [hD] at z; simp at z
        · rw [hD] at z; simp at z
    · have pA := rowA p (by rw [hD]; simp)
      have e24 : U 24 p = -1 := by
        have := (zd b hb).1
        rw [hC, hD] at this
        exact isCh_end D' _ p this
      have m7 : mJ7 U l p = [] := by unfold mJ7; rw [if_neg (fun y => y.1 e24)]
      have pD : p ∉ D' := fun hm => by
        have := stL_nodup (U := U) (w := w) (p := fun s => decide (U 22 s = b))
        have e : stL U w (fun s => decide (U 22 s = b)) = D := hC
        rw [e, hD, List.nodup_append] at this
        exact this.2.2 p hm p (by simp) rfl
      have noP : ∀ t, t ∈ D → ¬ uB w U t (U 22 p) := fun t ht y => by
        have tA := rowA t ht
        rw [pA.2, ← tA.2] at y
        exact uB_no zg pw tA.1 y
      have pN : p ∉ Nd ++ N := fun hm => by
        rcases List.mem_append.mp hm with y | y
        · exact nd p y (by rw [pA.2]; exact anc_rf)
        · rcases ((hJ.2 p).mp y).2 with z | ⟨t, t1, t2⟩
          · exact pD z
          · exact noP t t1 t2
      have sj3 := SJ_end (X := X) sj pA.1 pN (by
        unfold mJs
        rw [m7, List.append_nil]
        exact List.Perm.append_left _ hY)
      have yl := hY.length_eq
      refine q h v (N ++ [p]) cr (by rw [← List.append_assoc]; exact sj3) ⟨?_, fun x => ?_⟩ jd' jf' ?_ fw
      · rw [List.nodup_append]
        exact ⟨hJ.1, by simp, fun a ha d hd e => pN (List.mem_append.mpr (Or.inr (by simp at hd; rw [← hd, ← e]; exact ha)))⟩
      · rw [List.mem_append, hJ.2 x]
        constructor
        · rintro (⟨h1, h2⟩ | h1)
          · refine ⟨h1, (jnE x h1).mpr ?_⟩
            rcases h2 with h2 | h2
            · exact Or.inl (by rw [hD]; simp [h2])
            · exact Or.inr h2
          · simp at h1
            rw [h1]
            exact ⟨pA.1, by
              show anc U (U 22 p) b
              rw [pA.2]; exact anc_rf⟩
        · rintro ⟨h1, h2⟩
          rcases (jnE x h1).mp h2 with z | z
          · rw [hD] at z
            simp at z
            rcases z with z | z
            · exact Or.inl ⟨h1, Or.inl z⟩
            · exact Or.inr (by simp [z])
          · exact Or.inl ⟨h1, Or.inr z⟩
      · have ml : (mJs U w c l p).length = (mJ0 U w c p).length := by unfold mJs; rw [m7, List.append_nil]
        rw [List.flatMap_append, List.length_append, List.flatMap_cons, List.flatMap_nil, List.append_nil, ml]
        exact rm.le (by omega) (by omega)
  | cons s E ih =>
    intro D h v N Y l3 hC cr jl
    obtain ⟨sj, ⟨f2, f3⟩, ⟨jd, jsf⟩, jf, hN, rm, fw, pin⟩ := id jl
    obtain ⟨kb, _, lr, r0, kl, _, lv⟩ := sj.1.2.2.2.2.2.1 b hb
    have hC' : stL U w (fun s => decide (U 22 s = b)) = D ++ s :: E := hC
    have len : (vLs v lr).length = D.length + (E.length + 1) := by rw [lv, List.length_map, hC', List.length_append, List.length_cons]
    rw [hC, List.length_append, List.length_cons] at sl
    have sA : As w U s ∧ U 22 s = b := stB_in.mp (by rw [hC]; simp)
    have ks := (sj.1.2.2.2.2.1 s sA.1).1.1
    have kh : hK h (A 2 s) = hK v.1 (A 2 s) := cr.kd (by omega)
    have ge : (vLs v lr).getD ((D.length : Int)).toNat none = some (A 2 s) := by rw [lv, hC', Int.toNat_natCast]; exact map_getD _ D E s none
    have rowA : ∀ t, t ∈ D → As w U t ∧ U 22 t = b := fun t ht => stB_in.mp (by rw [hC]; simp [ht])
    have sD : s ∉ D := fun hm => by
      have := stL_nodup (U := U) (w := w) (p := fun s => decide (U 22 s = b))
      rw [hC', List.nodup_append] at this
      exact this.2.2 s hm s (by simp) rfl
    have dis : ∀ t k, t ∈ D → Ab w U k → uB w U t k → ¬ uB w U s k := fun t k ht hk h1 h2 => by
      obtain ⟨d, d1, d2⟩ := h1
      obtain ⟨d', d1', d2'⟩ := h2
      have := (uB_un zg pw hk d1 d2 d1' d2' (by rw [(rowA t ht).2, sA.2])).2
      exact sD (by rw [← this]; exact ht)
    rw [sX11_judge_12, sX11_judge_13, sX11_judge_14 (cr.kk kb (by decide)), cr.rr kb rfl, r0, sX11_judge_17 (cr.kk kl (by decide)), v_size cr kl, Kt_v, sX11_judge_20, len, if_neg (by rw [iI_le (by omega) (by omega) (by omega) (by omega)]; omega), sX11_judge_23, sX11_judge_24 (cr.kk kb (by decide)), cr.rr kb rfl, r0, sX11_judge_27, sX11_judge_28 (cr.kk kl (by decide)), v_get cr kl (by omega) (by rw [len]; omega), Kt_v, ge, sX11_judge_31 (by
      rw [kh]
      generalize hK v.1 (A 2 s) = x at *
      have : x = 30 ∨ x = 31 ∨ x = 32 ∨ x = 33 ∨ x = 34 ∨ x = 35 ∨ x = 36 ∨ x = 37 ∨ x = 38 := by omega
      rcases this with rfl | rfl | rfl | rfl | rfl | rfl | rfl | rfl | rfl <;> decide), sX11_judge_34]
    refine jb_mid (l3 := none) j hb hC cr jl (by omega) nd (fun h1 v1 N1 c1 sj1 g2 ⟨jd1, jsf1⟩ jf1 jn1 rm1 fw1 pin1 => ?_)
    have ks1 := (sj1.1.2.2.2.2.1 s sA.1).1.1
    have kh1 : hK h1 (A 2 s) = hK v1.1 (A 2 s) := c1.kd (by omega)
    rw [sX11_judge_53, sX11_judge_54, sX11_judge_55 (by rw [kh1]; omega) (by rw [kh1]; omega)]
    refine jsc h1 v1 (Nd ++ N1) X s _ c1 sj1 sA.1 (by rw [sA.2]; exact hr) (by rw [sA.2]; exact hX) (by rw [sA.2]; exact pin1) (fun x hx y => ?_) (fun h2 v2 N2 Y2 c2 sj2 hY2 jn2 jd2 sf2 jf2 rm2 fw2 => ?_)
    · rcases List.mem_append.mp hx with z | z
      · have xA := sj1.2.2.1.2 x hx
        exact nd x z ((anc_top pw (pw.1 x xA)).mpr (Or.inr ⟨s, sA.1, sA.2, y⟩))
      · obtain ⟨xA, z⟩ := (jn1.2 x).mp z
        rcases z with z | ⟨t, t1, t2⟩
        · rw [(rowA x z).2, ← sA.2] at y
          exact uB_no zg pw sA.1 y
        · exact dis t _ t1 (pw.1 x xA) t2 y
    · have nb : ¬ uB w U s b := by
        have := uB_no zg pw sA.1
        rw [sA.2] at this
        exact this
      have kb2 := (sj2.1.2.2.2.2.2.1 b hb).1
      have ks2 := (sj2.1.2.2.2.2.1 s sA.1).1.1
      have kh2 : hK h2 (A 2 s) = hK v2.1 (A 2 s) := c2.kd (by omega)
      have fok : sOk (D.foldl (fun a t => sOr a (c t)) 0) := fold_ok D 0 sOk0 (fun t ht => (jc t (rowA t ht).1).1)
      have e2 : hI v2.1 (A 3 b) 2 = iI (D.foldl (fun a t => sOr a (c t)) 0) := by rw [(jf2.1 b hb nb).1]; exact g2
      rw [Kt_0, sX11_judge_58, sX11_judge_59, sX11_judge_60 (c2.kk kb2 (by decide)), c2.ii kb2 rfl, e2, sX11_judge_63, sX11_judge_64 (by rw [kh2]; omega) (by rw [kh2]; omega), c2.ii (n := hK v2.1 (A 2 s)) rfl (wk_st ks2), sf2.1.1, sX11_judge_67, iI_or fok (jc s sA.1).1, sX11_judge_68 (c2.kk kb2 (by decide))]
      have c3 := CR_pI (k := 2) (x := iI (sOr (D.foldl (fun a t => sOr a (c t)) 0) (c s))) c2 kb2 rfl
      obtain ⟨sj3, rm3, fw3, jf3, kp3⟩ := SJ_pb (k := 2) (x := iI (sOr (D.foldl (fun a t => sOr a (c t)) 0) (c s))) j sj2 hb (Or.inl rfl)
      have z2 : hI (vpI v2 (A 3 b) 2 (iI (sOr (D.foldl (fun a t => sOr a (c t)) 0) (c s)))).1 (A 3 b) 2 = iI ((D ++ [s]).foldl (fun a t => sOr a (c t)) 0) := by
        rw [vpI_1, hI_putI, if_pos ⟨rfl, rfl⟩, List.foldl_append]
        rfl
      generalize (vpI v2 (A 3 b) 2 (iI (sOr (D.foldl (fun a t => sOr a (c t)) 0) (c s)))) = v3 at *
      generalize (putI h2 (A 3 b) 2 (iI (sOr (D.foldl (fun a t => sOr a (c t)) 0) (c s)))) = h3 at *
      have kb3 := (sj3.1.2.2.2.2.2.1 b hb).1
      have ks3 := (sj3.1.2.2.2.2.1 s sA.1).1.1
      have kh3 : hK h3 (A 2 s) = hK v3.1 (A 2 s) := c3.kd (by omega)
      have s4 : hI v3.1 (A 2 s) 4 = bI (l s ≠ 0) := by
        rw [(kp3 s sA.1).2.1]; exact sf2.1.2
      rw [sX11_judge_71, sX11_judge_72, sX11_judge_73 (by rw [kh3]; omega) (by rw [kh3]; omega), c3.ii (n := hK v3.1 (A 2 s)) rfl (wk_st ks3), s4, sX11_judge_76 (c3.kk kb3 (by decide)) am_fit4, sX11_judge_79, sX11_judge_82]
      have c4 := CR_pI (k := 3) (x := bI (l s ≠ 0)) c3 kb3 rfl
      obtain ⟨sj4, rm4, fw4, jf4, kp4⟩ := SJ_pb (k := 3) (x := bI (l s ≠ 0)) j sj3 hb (Or.inr rfl)
      have y2 : hI (vpI v3 (A 3 b) 3 (bI (l s ≠ 0))).1 (A 3 b) 2 = iI ((D ++ [s]).foldl (fun a t => sOr a (c t)) 0) := by
        rw [vpI_1, hI_putI, if_neg (fun y => by simp at y)]
        exact z2
      have y3 : hI (vpI v3 (A 3 b) 3 (bI (l s ≠ 0))).1 (A 3 b) 3 = bI (l s ≠ 0) := by
        rw [vpI_1, hI_putI, if_pos ⟨rfl, rfl⟩]
      generalize (vpI v3 (A 3 b) 3 (bI (l s ≠ 0))) = v4 at *
      have jl4 := jl_next (X := X) (v0 := v0) (Nd := Nd) j hb hC jd1 jsf1 jf1 jn1 rm1 fw1 pin1 hY2 jn2 jd2 sf2 jf2 rm2 fw2 sj4 y2 y3 ((jf3.tr jf4).mono (fun k _ y => by rcases y with y | y <;> exact y) pw (fun x _ y => by rcases y with y | y <;> exact y.elim)) (fun t ht => by
        obtain ⟨a1, a2, a3⟩ := kp3 t ht
        obtain ⟨b1, b2, b3⟩ := kp4 t ht
        exact ⟨b1.trans a1, b2.trans a2, b3.trans a3⟩) (by have := rm3.trans rm4; simpa using this) (XLk_tr fw3 fw4)
      have nn : (iI D.length : Int32) + 1 = iI (D ++ [s]).length := by
        rw [List.length_append, List.length_singleton, show (1 : Int32) = iI 1 from rfl, iI_add]
        rfl
      rw [nn]
      exact ih (D ++ [s]) _ v4 _ _ _ (by rw [hC, List.append_assoc]; rfl) c4 jl4
/-- Block.judge, if its statements can be judged -/
theorem c_jblock (jsc : JSC (r + 1) R A T w p0 g U c l L0) (j : JP w g U c l) : JBC (r + 1) R A T w p0 g U c l L0 := by
  intro h v Nd X b Q cr sj hb hr hX pin nd q
  have pw := j.pw
  have kb := (sj.1.2.2.2.2.2.1 b hb).1
  rw [eX11_judge, sX11_judge_0, sX11_judge_1, sX11_judge_2 (cr.kk kb (by decide)), sX11_judge_5, sX11_judge_6]
  have c1 := CR_pI (k := 2) (x := 0) cr kb rfl
  obtain ⟨sj1, rm1, fw1, jf1, kp1⟩ := SJ_pb (k := 2) (x := 0) j sj hb (Or.inl rfl)
  have z2 : hI (vpI v (A 3 b) 2 0).1 (A 3 b) 2 = 0 := by rw [vpI_1, hI_putI, if_pos ⟨rfl, rfl⟩]
  generalize (vpI v (A 3 b) 2 0) = v1 at *
  generalize (putI h (A 3 b) 2 0) = h1 at *
  have kb1 := (sj1.1.2.2.2.2.2.1 b hb).1
  rw [sX11_judge_7 (c1.kk kb1 (by decide)) rfl, sX11_judge_10, sX11_judge_11]
  have c2 := CR_pI (k := 3) (x := 1) c1 kb1 rfl
  obtain ⟨sj2, rm2, fw2, jf2, kp2⟩ := SJ_pb (k := 3) (x := 1) j sj1 hb (Or.inr rfl)
  have y2 : hI (vpI v1 (A 3 b) 3 1).1 (A 3 b) 2 = 0 := by
    rw [vpI_1, hI_putI, if_neg (fun y => by simp at y)]
    exact z2
  have y3 : hI (vpI v1 (A 3 b) 3 1).1 (A 3 b) 3 = 1 := by rw [vpI_1, hI_putI, if_pos ⟨rfl, rfl⟩]
  generalize (vpI v1 (A 3 b) 3 1) = v2 at *
  have jf := (jf1.tr jf2).mono (P' := fun k => k = b ∨ ∃ s, s ∈ ([] : List Int) ∧ uB w U s k) (E' := fun x => x ∈ ([] : List Int)) (fun k _ y => by rcases y with y | y <;> exact Or.inl y) pw (fun x _ y => by rcases y with y | y <;> exact y.elim)
  refine jb_loop (v0 := v) jsc j hb hr hX nd (fun h' v' N a1 a2 a3 a4 a5 a6 a7 => q h' v' N a1 a2 a3 a4 a5 a6 a7) (stB U w b) [] _ v2 [] [] none rfl c2 ⟨by simpa using sj2, ⟨y2, ?_⟩, ⟨⟨fun k _ y => ?_, fun x _ y => ?_⟩, fun t ht => ?_⟩, jf, Or.inl ⟨rfl, rfl, rfl⟩, ?_, XLk_tr fw1 fw2, fun k hk a z => ?_⟩
  · rw [y3, bI_t (Or.inl rfl)]; rfl
  · obtain ⟨s, y, _⟩ := y
    simp at y
  · obtain ⟨s, y, _⟩ := y
    simp at y
  · simp at ht
  · have := rm1.trans rm2
    simpa using this
  · have oA := (par_ab pw hk (by omega)).1
    unfold IF
    rw [(kp2 _ oA).2.2, (kp1 _ oA).2.2]
    exact pin k hk a z
end JBL
