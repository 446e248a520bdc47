/-! COMPONENT, 111: judging a block (137), if its statements can be judged *-/
/-- the tries whose catches are around know what comes out of them -/
def PIN (A : Nat → Int → Nat) (w : Int) (U : tSt) (c : Int → Int) (v : vT) (b : Int) : Prop := ∀ k, Ab w U k → anc U b k → U 41 k = 6 → IF A w U c v (U 42 k)
def JSC (r : Nat) (R : Nat → Nat) (A : Nat → Int → Nat) (T : Nat → Nat) (w p0 : Int) (g : Int → Int) (U : tSt) (c l : Int → Int) (L0 : List tMi) : Prop := ∀ (h : am_H) (v : vT) (Nd : List Int) (X : List tMi) (s : Int) (Q : am_O → am_H → Prop), CR h v → SJ R A T w p0 U c l L0 v Nd X → As w U s → 9 - g (U 22 s) ≤ r → X.length ≤ 100 * g (U 22 s) → PIN A w U c v (U 22 s) → (∀ x, x ∈ Nd → ¬ uB w U s (U 22 x)) →
  (∀ h' v' N Y, CR h' v' → SJ R A T w p0 U c l L0 v' (Nd ++ N) Y → Y.Perm (X ++ mJ0 U w c s) → JN w U N (fun x => uB w U s (U 22 x)) → JD A w U c l v' (uB w U s) → SF A w U c l v' s ∧ (U 20 s = 9 → IF A w U c v' s) → JF A w U v v' (uB w U s) (fun x => x = s) → RM (R 9) v v' (2 * ((N.flatMap (mJs U w c l)).length + (mJ0 U w c s).length : Nat)) (3 * ((N.flatMap (mJs U w c l)).length + (mJ0 U w c s).length : Nat)) → Fw (XLk v) v v' → Q (Sum.inl none) h') → Cl r 176 [vR (some (A 2 s)), vR (some (R 3))] h Q
def JBC (r : Nat) (R : Nat → Nat) (A : Nat → Int → Nat) (T : Nat → Nat) (w p0 : Int) (g : Int → Int) (U : tSt) (c l : Int → Int) (L0 : List tMi) : Prop := ∀ (h : am_H) (v : vT) (Nd : List Int) (X : List tMi) (b : Int) (Q : am_O → am_H → Prop), CR h v → SJ R A T w p0 U c l L0 v Nd X → Ab w U b → 9 - g b ≤ r → X.length ≤ 100 * g b → PIN A w U c v b → (∀ x, x ∈ Nd → ¬ anc U (U 22 x) b) →
  (∀ h' v' N, CR h' v' → SJ R A T w p0 U c l L0 v' (Nd ++ N) X → JN w U N (fun x => anc U (U 22 x) b) → JD A w U c l v' (fun k => anc U k b) → JF A w U v v' (fun k => anc U k b) (fun _ => False) → RM (R 9) v v' (2 * ((N.flatMap (mJs U w c l)).length : Nat)) (3 * ((N.flatMap (mJs U w c l)).length : Nat)) → Fw (XLk v) v v' → Q (Sum.inl none) h') → Cl r 137 [vR (some (A 3 b)), vR (some (R 3))] h Q
/-- the loop of a block b: rows D are judged -/
def JL (R : Nat → Nat) (A : Nat → Int → Nat) (T : Nat → Nat) (w p0 : Int) (U : tSt) (c l : Int → Int) (L0 : List tMi) (b : Int) (v0 : vT) (Nd : List Int) (X : List tMi) (D : List Int) (v : vT) (N : List Int) (Y : List tMi) : Prop :=
  SJ R A T w p0 U c l L0 v (Nd ++ N) (X ++ Y) ∧ (hI v.1 (A 3 b) 2 = iI (D.foldl (fun a t => sOr a (c t)) 0) ∧ hI v.1 (A 3 b) 3 = bI (D = [] ∨ l (D.getLastD 0) ≠ 0)) ∧ (JD A w U c l v (fun k => ∃ s, s ∈ D ∧ uB w U s k) ∧ ∀ s, s ∈ D → SF A w U c l v s ∧ (U 20 s = 9 → IF A w U c v s)) ∧ JF A w U v0 v (fun k => k = b ∨ ∃ s, s ∈ D ∧ uB w U s k) (fun x => x ∈ D) ∧
  ((D = [] ∧ N = [] ∧ Y = []) ∨ ∃ D' p, D = D' ++ [p] ∧ JN w U N (fun x => x ∈ D' ∨ ∃ s, s ∈ D ∧ uB w U s (U 22 x)) ∧ Y.Perm (mJ0 U w c p)) ∧ RM (R 9) v0 v (2 * ((N.flatMap (mJs U w c l)).length + Y.length : Nat)) (3 * ((N.flatMap (mJs U w c l)).length + Y.length : Nat)) ∧ Fw (XLk v0) v0 v ∧ PIN A w U c v b
section JBS
variable {R : Nat → Nat} {A : Nat → Int → Nat} {T : Nat → Nat} {w p0 b : Int} {U : tSt} {c l g : Int → Int} {L0 X : List tMi} {v0 : vT} {Nd : List Int} {r : Nat} {Q : am_O → am_H → Prop}
theorem wk_st {x : Nat} (h : 30 ≤ x ∧ x ≤ 38) : wk x = true := by
  obtain ⟨h1, h2⟩ := h
  have : x = 30 ∨ x = 31 ∨ x = 32 ∨ x = 33 ∨ x = 34 ∨ x = 35 ∨ x = 36 ∨ x = 37 ∨ x = 38 := by omega
  rcases this with rfl | rfl | rfl | rfl | rfl | rfl | rfl | rfl | rfl <;> rfl
theorem isCh_nx : ∀ (D : List Int) (a p s : Int) (E : List Int), isCh U a (D ++ p :: s :: E) → U 24 p = s := by
  intro D
  induction D with
  | nil => intro a p s E h; exact h.2.1
  | cons t D ih => intro a p s E h; exact ih _ p s E h.2
theorem isCh_end : ∀ (D : List Int) (a p : Int), isCh U a (D ++ [p]) → U 24 p = -1 := by
  intro D
  induction D with
  | nil => intro a p h; exact h.2
  | cons t D ih => intro a p h; exact ih _ p h.2
theorem mCj_l {i cc k : Int} : (mCj U w i cc k).length ≤ 3 := by
  unfold mCj
  split
  · exact Nat.zero_le _
  · rw [List.length_append, List.length_append]
    have a := if_l1 (p := 1 < cK U w cc k ∧ chk U w (cK U w cc k) = true ∧ tFor (fun q a => a || (sHas i q && bel U w q (cK U w cc k))) (U 3 w).toNat 0 (und U w (cK U w cc k) i) = false) (a := ((3 : Int), (U 39 (4 * cc + k), cK U w cc k)))
    have b := if_l1 (p := und U w (cK U w cc k) (ahd U w cc) = true) (a := ((4 : Int), (U 39 (4 * cc + k), cK U w cc k)))
    have d := if_l1 (p := tFor (fun j a => a || (decide (cK U w cc j ≠ -1) && (bel U w (cK U w cc k) (cK U w cc j) || bel U w (cK U w cc j) (cK U w cc k)))) k.toNat 0 false = true) (a := ((5 : Int), (U 39 (4 * cc + k), cK U w cc k)))
    omega
theorem mJ0_l (qv : QV U) (s : Int) : (mJ0 U w c s).length ≤ 48 := by
  have b3 := QV_b qv (f := 3) (c := 16) rfl rfl rfl w
  have b33 := QV_b qv (f := 33) (c := 4) rfl rfl rfl s
  unfold mJ0
  split
  · split
    · show 1 ≤ 48; decide
    · exact Nat.zero_le _
  · split
    · have := tCat_len (f := fun i => tCat (mCj U w (chO U w (ins U w c s)) (4 * s + i)) (U 37 (4 * s + i)).toNat 0) (n := 12) (U 33 s).toNat 0 (fun k _ _ => by
        have b37 := QV_b qv (f := 37) (c := 4) rfl rfl rfl (4 * s + k)
        have := tCat_len (f := mCj U w (chO U w (ins U w c s)) (4 * s + k)) (n := 3) (U 37 (4 * s + k)).toNat 0 (fun j _ _ => mCj_l)
        omega)
      omega
    · split
      · have := mUnt_l (w := w) (U := U) (s := bC U w c (U 27 s)) (t := nmO U w s) (a := U 21 s) b3
        omega
      · split
        · split
          · show 1 ≤ 48; decide
          · exact Nat.zero_le _
        · exact Nat.zero_le _
theorem mJ7_l (s : Int) : (mJ7 U l s).length ≤ 1 := by
  unfold mJ7
  split
  · exact Nat.le_refl _
  · exact Nat.zero_le _
theorem mJs_l (qv : QV U) (s : Int) : (mJs U w c l s).length ≤ 60 := by
  unfold mJs
  have a := mJ0_l (w := w) (c := c) qv s
  have b := mJ7_l (U := U) (l := l) s
  rw [List.length_append]
  omega
/-- the last row of those judged is at its end, the next one is s -/
theorem jb_mid (j : JP w g U c l) (hb : Ab w U b) {D E : List Int} {s : Int} (hC : stB U w b = D ++ s :: E) {h : am_H} {v : vT} {N : List Int} {Y : List tMi} (cr : CR h v) (jl : JL R A T w p0 U c l L0 b v0 Nd X D v N Y) (hX : X.length ≤ 800) (nd : ∀ x, x ∈ Nd → ¬ anc U (U 22 x) b) {l2 l3 : Option am_V}
    (q : ∀ h' v' N', CR h' v' → SJ R A T w p0 U c l L0 v' (Nd ++ N') X → hI v'.1 (A 3 b) 2 = iI (D.foldl (fun a t => sOr a (c t)) 0) → (JD A w U c l v' (fun k => ∃ s, s ∈ D ∧ uB w U s k) ∧ ∀ s, s ∈ D → SF A w U c l v' s ∧ (U 20 s = 9 → IF A w U c v' s)) → JF A w U v0 v' (fun k => k = b ∨ ∃ s, s ∈ D ∧ uB w U s k) (fun x => x ∈ D) → JN w U N' (fun x => x ∈ D ∨ ∃ s, s ∈ D ∧ uB w U s (U 22 x)) → RM (R 9) v0 v' (2 * ((N'.flatMap (mJs U w c l)).length : Nat)) (3 * ((N'.flatMap (mJs U w c l)).length : Nat)) → Fw (XLk v0) v0 v' → PIN A w U c v' b → Rn (r + 1) 137 53 [some (vR (some (A 3 b))), some (vR (some (R 3))), l2, some (vR (some (A 2 s)))] [] h' Q) :
    Rn (r + 1) 137 35 [some (vR (some (A 3 b))), some (vR (some (R 3))), l2, some (vR (some (A 2 s)))] [] h Q := by
  have pw := j.pw
  obtain ⟨⟨za, zb, zc, zd, zg⟩, ⟨pq, qv, qw, w0⟩, jc, _⟩ := id j
  have b19 := QV_b qv (f := 19) (c := 120) rfl rfl rfl w
  obtain ⟨sj, ⟨f2, f3⟩, ⟨jd, jsf⟩, jf, hN, rm, fw, pin⟩ := jl
  have kb := (sj.1.2.2.2.2.2.1 b hb).1
  have k5 := sj.1.1.1.1
  have sA : As w U s ∧ U 22 s = b := stB_in.mp (by rw [hC]; simp)
  have ks := (sj.1.2.2.2.2.1 s sA.1).1
  have ks1 := ks.1
  have kh : hK h (A 2 s) = hK v.1 (A 2 s) := cr.kd (by omega)
  rw [sX11_judge_35, sX11_judge_36 (cr.kk kb (by decide)), cr.ii kb rfl, f3, sX11_judge_39]
  rcases hN with ⟨hD, hN, hY⟩ | ⟨D', p, hD, hJ, hY⟩
  · subst hD
    subst hN
    subst hY
    rw [if_pos (by rw [bI_t (Or.inl rfl)]; decide)]
    refine q h v [] cr (by simpa using sj) f2 ⟨jd, jsf⟩ jf ⟨by simp, fun x => ?_⟩ (by simpa using rm) fw pin
    constructor
    · intro h; simp at h
    · rintro ⟨_, h | ⟨s, h, _⟩⟩
      · simp at h
      · simp at h
  · have e24 : U 24 p = s := by
      have := (zd b hb).1
      rw [hC, hD, List.append_assoc] at this
      exact isCh_nx D' _ p s E this
    have s0 : s ≠ -1 := by have := sA.1.1; omega
    have pA : As w U p ∧ U 22 p = b := stB_in.mp (by rw [hC, hD]; simp)
    have gl : D.getLastD 0 = p := by rw [hD, List.getLastD_concat]
    have pD : p ∉ D' := fun hm => by
      have := stL_nodup (U := U) (w := w) (p := fun s => decide (U 22 s = b))
      have e : stL U w (fun s => decide (U 22 s = b)) = D ++ s :: E := hC
      rw [e, hD, List.append_assoc, List.nodup_append] at this
      exact this.2.2 p hm p (by simp) rfl
    have noP : ∀ t, t ∈ D → ¬ uB w U t (U 22 p) := fun t ht y => by
      have tA : As w U t ∧ U 22 t = b := stB_in.mp (by rw [hC]; simp [ht])
      rw [pA.2, ← tA.2] at y
      exact uB_no zg pw tA.1 y
    have pN : p ∉ Nd ++ N := fun hm => by
      rcases List.mem_append.mp hm with y | y
      · exact nd p y (by rw [pA.2]; exact anc_rf)
      · rcases ((hJ.2 p).mp y).2 with z | ⟨t, t1, t2⟩
        · exact pD z
        · exact noP t t1 t2
    have jn : JN w U (N ++ [p]) (fun x => x ∈ D ∨ ∃ s, s ∈ D ∧ uB w U s (U 22 x)) := by
      refine ⟨?_, fun x => ?_⟩
      · rw [List.nodup_append]
        exact ⟨hJ.1, by simp, fun a ha d hd e => pN (List.mem_append.mpr (Or.inr (by simp at hd; rw [← hd, ← e]; exact ha)))⟩
      · rw [List.mem_append, hJ.2 x]
        constructor
        · rintro (⟨h1, h2 | h2⟩ | h1)
          · exact ⟨h1, Or.inl (by rw [hD]; simp [h2])⟩
          · exact ⟨h1, Or.inr h2⟩
          · simp at h1
            rw [h1]
            exact ⟨pA.1, Or.inl (by rw [hD]; simp)⟩
        · rintro ⟨h1, h2 | h2⟩
          · rw [hD] at h2
            simp at h2
            rcases h2 with h2 | h2
            · exact Or.inl ⟨h1, Or.inl h2⟩
            · exact Or.inr (by simp [h2])
          · exact Or.inl ⟨h1, Or.inr h2⟩
    have fl : ((N ++ [p]).flatMap (mJs U w c l)).length = (N.flatMap (mJs U w c l)).length + (mJs U w c l p).length := by
      rw [List.flatMap_append, List.length_append, List.flatMap_cons, List.flatMap_nil, List.append_nil]
    have yl := hY.length_eq
    by_cases lp : l p = 0
    · rw [if_neg (fun y => y (bI_0.mpr (fun z => by
        rcases z with z | z
        · rw [hD] at z; simp at z
        · rw [gl] at z; exact z lp)))]
      have m7 : mJ7 U l p = [(7, (U 21 s, -1))] := by unfold mJ7; rw [e24, if_pos ⟨s0, lp⟩]
      obtain ⟨E0, e1, e2, e3⟩ := SJ_len sj (fun x _ => mJs_l qv x) b19
      have q21 := qv 21 s
      have q21a : -1 ≤ U 21 s := q21.1
      have q21b : U 21 s ≤ 100000 := q21.2.2 rfl
      rw [sX11_judge_42, sX11_judge_43, sX11_judge_45, sX11_judge_46 (by rw [kh]; omega) (by rw [kh]; omega), cr.ii (n := hK v.1 (A 2 s)) rfl (wk_st ks1), ks.2.2.1, sX11_judge_49, sX11_judge_50 (cr.kk k5 (by decide)), i_m1, i_7]
      refine c_mi1 cr k5 sj.1.1.2.1 e1.1 (by omega) (by omega) (by omega) (by omega) (fun h2 v2 c2 F2 m2 => ?_)
      have y48 := mJ0_l (w := w) (c := c) qv p
      obtain ⟨sj2, rm2, fw2, jf2⟩ := SJ_mi sj e2 e1 F2 m2 (by rw [List.length_append, List.length_append, List.length_singleton]; omega)
      have sj3 := SJ_end (X := X) sj2 pA.1 pN (by
        unfold mJs
        rw [m7, List.append_assoc]
        exact List.Perm.append_left _ (List.Perm.append_right _ hY))
      rw [Kt_0]
      have kb2 := F2.kk kb (by decide)
      refine q h2 v2 (N ++ [p]) c2 (by rw [← List.append_assoc]; exact sj3) ?_ ⟨jd.keep jf2 pw (fun _ _ _ y => y) (fun _ _ _ y => y), fun t ht => ?_⟩ ?_ jn ?_ (XLk_tr fw fw2) (fun k hk a z => ?_)
      · rw [(jf.tr jf2 |>.1 b hb |> fun _ => jf2.1 b hb (fun y => y)).1]
        exact f2
      · have tA : As w U t := (stB_in.mp (show t ∈ stB U w b by rw [hC]; simp [ht])).1
        obtain ⟨a1, a2, a3⟩ := jf2.2 t tA (fun y => y) (fun y => y)
        unfold SF IF
        rw [a1, a2, a3]
        exact jsf t ht
      · exact (jf.tr jf2).mono (fun k _ y => by rcases y with y | y; exact y; exact y.elim) pw (fun x _ y => by rcases y with y | y; exact Or.inl y; exact y.elim)
      · have ml : (mJs U w c l p).length = (mJ0 U w c p).length + 1 := by unfold mJs; rw [m7, List.length_append, List.length_singleton]
        rw [fl, ml]
        rw [List.length_singleton] at rm2
        exact (rm.trans rm2).le (by omega) (by omega)
      · have oA := (par_ab pw hk (by omega)).1
        obtain ⟨a1, a2, a3⟩ := jf2.2 _ oA (fun y => y) (fun y => y)
        unfold IF
        rw [a3]
        exact pin k hk a z
    · rw [if_pos (by rw [bI_t (Or.inr (by rw [gl]; exact lp))]; decide)]
      have m7 : mJ7 U l p = [] := by unfold mJ7; rw [if_neg (fun y => lp y.2)]
      have sj3 := SJ_end (X := X) sj pA.1 pN (by
        unfold mJs
        rw [m7, List.append_nil]
        exact List.Perm.append_left _ hY)
      refine q h v (N ++ [p]) cr (by rw [← List.append_assoc]; exact sj3) f2 ⟨jd, jsf⟩ jf jn ?_ fw pin
      have ml : (mJs U w c l p).length = (mJ0 U w c p).length := by unfold mJs; rw [m7, List.append_nil]
      rw [fl, ml]
      exact rm.le (by omega) (by omega)
end JBS
