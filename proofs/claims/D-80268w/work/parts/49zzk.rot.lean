/-! JDK: maps, 4: rotations of a tree; printed by gen_rot.py *-/
def trH (h : am_H) (K : Nat → Int) (B : Nat → Prop) (r : Nat) (lo hi : Nat → Int) : Prop := tR B r K (fun x => hR h x 4) (fun x => hR h x 5) (fun x => hR h x 6) lo hi
/-- only the links and colours of a tree's nodes change -/
def TCh (B : Nat → Prop) (h h' : am_H) : Prop := h'.1 = h.1 ∧ h'.2.1 = h.2.1 ∧ (∀ b k, hJ h' b k = hJ h b k) ∧ (∀ b k, ¬ (B b ∧ k = 8) → hI h' b k = hI h b k) ∧ (∀ b k, ¬ (B b ∧ (k = 4 ∨ k = 5 ∨ k = 6)) → hR h' b k = hR h b k)
section ROT
variable {B : Nat → Prop} {h h' h'' : am_H} {a k j : Nat} {z : Option Nat} {x : Int32}
theorem TCh.refl : TCh B h h := ⟨rfl, rfl, fun _ _ => rfl, fun _ _ _ => rfl, fun _ _ _ => rfl⟩
theorem TCh.trans (c : TCh B h h') (d : TCh B h' h'') : TCh B h h'' := by
  obtain ⟨c1, c2, c3, c4, c5⟩ := c
  obtain ⟨d1, d2, d3, d4, d5⟩ := d
  exact ⟨d1.trans c1, d2.trans c2, fun b k => (d3 b k).trans (c3 b k), fun b k q => (d4 b k q).trans (c4 b k q), fun b k q => (d5 b k q).trans (c5 b k q)⟩
theorem TCh.pI (hb : B a) : TCh B h (putI h a 8 x) := ⟨rfl, rfl, fun _ _ => rfl, fun b k q => by rw [hI_putI, if_neg (fun w => q ⟨by rw [w.1]; exact hb, w.2⟩)], fun _ _ _ => rfl⟩
theorem TCh.pR (hb : B a) (hk : k = 4 ∨ k = 5 ∨ k = 6) : TCh B h (putR h a k z) := ⟨rfl, rfl, fun _ _ => rfl, fun _ _ _ => rfl, fun b j q => by rw [hR_putR, if_neg (fun w => q ⟨by rw [w.1]; exact hb, by rw [w.2]; exact hk⟩)]⟩
theorem TCh.kk (c : TCh B h h') : hK h' a = hK h a := by unfold hK; rw [c.1, c.2.1]
theorem fuR_eq : (fun x => hR (putR h a k z) x k) = fu (fun x => hR h x k) a z := by
  funext w
  unfold fu
  rw [hR_putR]
  by_cases q : w = a
  · rw [if_pos ⟨q, rfl⟩, if_pos q]
  · rw [if_neg (am_ne q), if_neg q]
theorem fuR_ne (q : j ≠ k) : (fun x => hR (putR h a k z) x j) = fun x => hR h x j := by
  funext w
  rw [hR_putR, if_neg (fun y => q y.2)]
theorem fuR_i : (fun y => hR (putI h a k x) y j) = fun y => hR h y j := rfl
end ROT
section ROT2
variable {B : Nat → Prop} {h : am_H} {r rt p q : Nat} {K : Nat → Int} {lo hi : Nat → Int} {Q : am_O → am_H → Prop}
theorem v_rotL (tr : trH h K B rt lo hi) (k13 : ∀ x, B x → hK h x = 13) (hp : B p) (hq : hR h p 6 = some q)
    (post : ∀ h' rt' lo' hi', TCh B h h' → trH h' K B rt' lo' hi' → hR h' p 4 = some q → hR h' q 4 = hR h p 4 → (∀ z, z ≠ p → z ≠ q → hR h q 5 ≠ some z → hR h' z 4 = hR h z 4) → (∀ z, hI h' z 8 = hI h z 8 ∨ hI h' z 8 = 0) → lo' rt' = lo rt → hi' rt' = hi rt → Q (Sum.inl (some (vR (some rt')))) h') :
    Cl r 294 [vR (some rt), vR (some p)] h Q := by
  have q0 : B q ∧ hR h q 4 = some p ∧ lo q = K p ∧ hi q = hi p := tr.rt hp hq
  have kp := k13 p hp
  have kq := k13 q q0.1
  have q1 := tr.2.2.2.1 p hp
  have q2 := tr.2.2.2.1 q q0.1
  have qp : q ≠ p := by rintro rfl; omega
  have pq : p ≠ q := Ne.symm qp
  rw [eJ21_rotateLeft, sJ21_rotateLeft_0, sJ21_rotateLeft_1, if_neg (by simp), sJ21_rotateLeft_4, sJ21_rotateLeft_5 kp, hq, sJ21_rotateLeft_8, sJ21_rotateLeft_9, sJ21_rotateLeft_10, if_neg (by simp), sJ21_rotateLeft_13, sJ21_rotateLeft_14, sJ21_rotateLeft_15 kq, sJ21_rotateLeft_18, sJ21_rotateLeft_19 (by exact kp), sJ21_rotateLeft_22, sJ21_rotateLeft_23, sJ21_rotateLeft_25]
  cases hz : hR h q 5 with
  | none =>
    rw [if_pos rfl]
    rw [sJ21_rotateLeft_34, sJ21_rotateLeft_35, sJ21_rotateLeft_36 (by exact kp), hR_putR, if_neg (fun w => absurd w.2 (by decide))]
    rw [sJ21_rotateLeft_39, sJ21_rotateLeft_40 (by exact kq), sJ21_rotateLeft_43, sJ21_rotateLeft_44, sJ21_rotateLeft_45]
    cases hs : hR h p 4 with
    | none =>
      rw [if_neg (fun w => w rfl), sJ21_rotateLeft_48, sJ21_rotateLeft_49, sJ21_rotateLeft_50, sJ21_rotateLeft_51, sJ21_rotateLeft_52 (by exact kq) rfl, sJ21_rotateLeft_55, sJ21_rotateLeft_79, sJ21_rotateLeft_80, sJ21_rotateLeft_81 (by exact kq), sJ21_rotateLeft_84, sJ21_rotateLeft_85, sJ21_rotateLeft_86 (by exact kp), sJ21_rotateLeft_89, sJ21_rotateLeft_90]
      refine post _ q (fu lo q (lo p)) (fu hi p (K q)) ?_ ?_ ?_ ?_ ?_ ?_ ?_ ?_
      · exact ((TCh.pR hp (by decide)).trans (TCh.pR q0.1 (by decide))).trans (((TCh.pI q0.1).trans (TCh.pR q0.1 (by decide))).trans (TCh.pR hp (by decide)))
      · unfold trH
        simp (disch := decide) only [fuR_eq, fuR_ne, fuR_i]
        exact rotL_nn tr hp hq hs hz
      · rw [hR_putR, if_pos ⟨rfl, rfl⟩]
      · rw [hR_putR, if_neg (am_ne qp), hR_putR, if_neg (fun w => absurd w.2 (by decide)), hR_putI, hR_putR, if_pos ⟨rfl, rfl⟩, hs]
      · intro w w1 w2 w3
        rw [hR_putR, if_neg (am_ne w1), hR_putR, if_neg (fun y => absurd y.2 (by decide)), hR_putI, hR_putR, if_neg (am_ne w2), hR_putR, if_neg (fun y => absurd y.2 (by decide))]
      · intro w
        rw [hI_putR, hI_putR, hI_putI]
        split
        · exact Or.inr rfl
        · exact Or.inl rfl
      · unfold fu
        rw [if_pos rfl, tr.top hp hs]
      · unfold fu
        rw [if_neg qp, q0.2.2.2, tr.top hp hs]
    | some s =>
      have s0 := tr.up hp hs
      have ks := k13 s s0.1
      have s1 := tr.2.2.2.1 s s0.1
      rw [if_pos (by simp), sJ21_rotateLeft_58]
      have rd : hR (putR (putR h p 6 none) q 4 (some s)) s 5 = if s = p ∧ 5 = 6 then none else hR h s 5 := by
        rw [hR_putR, if_neg (fun w => absurd w.2 (by decide)), hR_putR]
      have sp : s ≠ p := by
        rintro rfl
        rcases s0.2 with w | w
        · have := tr.lf s0.1 w; omega
        · have := tr.rt s0.1 w; omega
      rw [if_neg (am_ne sp)] at rd
      rw [sJ21_rotateLeft_59 (by exact ks), rd, sJ21_rotateLeft_62, sJ21_rotateLeft_63]
      by_cases sl : hR h s 5 = some p
      · rw [sl, if_neg (fun w => w rfl), sJ21_rotateLeft_66, sJ21_rotateLeft_67, sJ21_rotateLeft_68 (by exact ks), sJ21_rotateLeft_71, sJ21_rotateLeft_79, sJ21_rotateLeft_80, sJ21_rotateLeft_81 (by exact kq), sJ21_rotateLeft_84, sJ21_rotateLeft_85, sJ21_rotateLeft_86 (by exact kp), sJ21_rotateLeft_89, sJ21_rotateLeft_90]
        refine post _ rt (fu lo q (lo p)) (fu hi p (K q)) ?_ ?_ ?_ ?_ ?_ ?_ ?_ ?_
        · exact ((TCh.pR hp (by decide)).trans (TCh.pR q0.1 (by decide))).trans (((TCh.pR s0.1 (by decide)).trans (TCh.pR q0.1 (by decide))).trans (TCh.pR hp (by decide)))
        · unfold trH
          simp (disch := decide) only [fuR_eq, fuR_ne, fuR_i]
          exact rotL_ln tr hp hq hs sl hz
        · rw [hR_putR, if_pos ⟨rfl, rfl⟩]
        · rw [hR_putR, if_neg (am_ne qp), hR_putR, if_neg (fun w => absurd w.2 (by decide)), hR_putR, if_neg (fun w => absurd w.2 (by decide)), hR_putR, if_pos ⟨rfl, rfl⟩, hs]
        · intro w w1 w2 w3
          rw [hR_putR, if_neg (am_ne w1), hR_putR, if_neg (fun y => absurd y.2 (by decide)), hR_putR, if_neg (fun y => absurd y.2 (by decide)), hR_putR, if_neg (am_ne w2), hR_putR, if_neg (fun y => absurd y.2 (by decide))]
        · intro w
          exact Or.inl rfl
        · unfold fu
          rw [if_neg]
          rintro rfl
          exact absurd (q0.2.1.symm.trans tr.2.1) (by simp)
        · unfold fu
          rw [if_neg]
          rintro rfl
          exact absurd (hs.symm.trans tr.2.1) (by simp)
      · have sr : hR h s 6 = some p := by
          rcases s0.2 with w | w
          · exact absurd w sl
          · exact w
        rw [if_pos sl, sJ21_rotateLeft_74, sJ21_rotateLeft_75, sJ21_rotateLeft_76 (by exact ks), sJ21_rotateLeft_79, sJ21_rotateLeft_80, sJ21_rotateLeft_81 (by exact kq), sJ21_rotateLeft_84, sJ21_rotateLeft_85, sJ21_rotateLeft_86 (by exact kp), sJ21_rotateLeft_89, sJ21_rotateLeft_90]
        clear sl
        have sl := sr
        refine post _ rt (fu lo q (lo p)) (fu hi p (K q)) ?_ ?_ ?_ ?_ ?_ ?_ ?_ ?_
        · exact ((TCh.pR hp (by decide)).trans (TCh.pR q0.1 (by decide))).trans (((TCh.pR s0.1 (by decide)).trans (TCh.pR q0.1 (by decide))).trans (TCh.pR hp (by decide)))
        · unfold trH
          simp (disch := decide) only [fuR_eq, fuR_ne, fuR_i]
          exact rotL_rn tr hp hq hs sl hz
        · rw [hR_putR, if_pos ⟨rfl, rfl⟩]
        · rw [hR_putR, if_neg (am_ne qp), hR_putR, if_neg (fun w => absurd w.2 (by decide)), hR_putR, if_neg (fun w => absurd w.2 (by decide)), hR_putR, if_pos ⟨rfl, rfl⟩, hs]
        · intro w w1 w2 w3
          rw [hR_putR, if_neg (am_ne w1), hR_putR, if_neg (fun y => absurd y.2 (by decide)), hR_putR, if_neg (fun y => absurd y.2 (by decide)), hR_putR, if_neg (am_ne w2), hR_putR, if_neg (fun y => absurd y.2 (by decide))]
        · intro w
          exact Or.inl rfl
        · unfold fu
          rw [if_neg]
          rintro rfl
          exact absurd (q0.2.1.symm.trans tr.2.1) (by simp)
        · unfold fu
          rw [if_neg]
          rintro rfl
          exact absurd (hs.symm.trans tr.2.1) (by simp)
  | some z =>
  have z0 : B z ∧ hR h z 4 = some q ∧ lo z = lo q ∧ hi z = K q := tr.lf q0.1 hz
  have kz := k13 z z0.1
  have z1 := tr.2.2.2.1 z z0.1
  have zp : z ≠ p := by rintro rfl; omega
  have zq : z ≠ q := by rintro rfl; omega
  rw [if_neg (by simp), sJ21_rotateLeft_28, sJ21_rotateLeft_30, sJ21_rotateLeft_31 (by exact kz)]
  rw [sJ21_rotateLeft_34, sJ21_rotateLeft_35, sJ21_rotateLeft_36 (by exact kp), hR_putR, if_neg (am_ne (Ne.symm zp)), hR_putR, if_neg (fun w => absurd w.2 (by decide))]
  rw [sJ21_rotateLeft_39, sJ21_rotateLeft_40 (by exact kq), sJ21_rotateLeft_43, sJ21_rotateLeft_44, sJ21_rotateLeft_45]
  cases hs : hR h p 4 with
  | none =>
    rw [if_neg (fun w => w rfl), sJ21_rotateLeft_48, sJ21_rotateLeft_49, sJ21_rotateLeft_50, sJ21_rotateLeft_51, sJ21_rotateLeft_52 (by exact kq) rfl, sJ21_rotateLeft_55, sJ21_rotateLeft_79, sJ21_rotateLeft_80, sJ21_rotateLeft_81 (by exact kq), sJ21_rotateLeft_84, sJ21_rotateLeft_85, sJ21_rotateLeft_86 (by exact kp), sJ21_rotateLeft_89, sJ21_rotateLeft_90]
    refine post _ q (fu lo q (lo p)) (fu hi p (K q)) ?_ ?_ ?_ ?_ ?_ ?_ ?_ ?_
    · exact (((TCh.pR hp (by decide)).trans (TCh.pR z0.1 (by decide))).trans (TCh.pR q0.1 (by decide))).trans (((TCh.pI q0.1).trans (TCh.pR q0.1 (by decide))).trans (TCh.pR hp (by decide)))
    · unfold trH
      simp (disch := decide) only [fuR_eq, fuR_ne, fuR_i]
      exact rotL_ns tr hp hq hs hz
    · rw [hR_putR, if_pos ⟨rfl, rfl⟩]
    · rw [hR_putR, if_neg (am_ne qp), hR_putR, if_neg (fun w => absurd w.2 (by decide)), hR_putI, hR_putR, if_pos ⟨rfl, rfl⟩, hs]
    · intro w w1 w2 w3
      rw [hR_putR, if_neg (am_ne w1), hR_putR, if_neg (fun y => absurd y.2 (by decide)), hR_putI, hR_putR, if_neg (am_ne w2), hR_putR, if_neg (am_ne (fun e => w3 (by rw [e]; exact hz))), hR_putR, if_neg (fun y => absurd y.2 (by decide))]
    · intro w
      rw [hI_putR, hI_putR, hI_putI]
      split
      · exact Or.inr rfl
      · exact Or.inl rfl
    · unfold fu
      rw [if_pos rfl, tr.top hp hs]
    · unfold fu
      rw [if_neg qp, q0.2.2.2, tr.top hp hs]
  | some s =>
    have s0 := tr.up hp hs
    have ks := k13 s s0.1
    have s1 := tr.2.2.2.1 s s0.1
    rw [if_pos (by simp), sJ21_rotateLeft_58]
    have rd : hR (putR (putR (putR h p 6 (some z)) z 4 (some p)) q 4 (some s)) s 5 = if s = p ∧ 5 = 6 then some z else hR h s 5 := by
      rw [hR_putR, if_neg (fun w => absurd w.2 (by decide)), hR_putR, if_neg (fun w => absurd w.2 (by decide)), hR_putR]
    have sp : s ≠ p := by
      rintro rfl
      rcases s0.2 with w | w
      · have := tr.lf s0.1 w; omega
      · have := tr.rt s0.1 w; omega
    rw [if_neg (am_ne sp)] at rd
    rw [sJ21_rotateLeft_59 (by exact ks), rd, sJ21_rotateLeft_62, sJ21_rotateLeft_63]
    by_cases sl : hR h s 5 = some p
    · rw [sl, if_neg (fun w => w rfl), sJ21_rotateLeft_66, sJ21_rotateLeft_67, sJ21_rotateLeft_68 (by exact ks), sJ21_rotateLeft_71, sJ21_rotateLeft_79, sJ21_rotateLeft_80, sJ21_rotateLeft_81 (by exact kq), sJ21_rotateLeft_84, sJ21_rotateLeft_85, sJ21_rotateLeft_86 (by exact kp), sJ21_rotateLeft_89, sJ21_rotateLeft_90]
      refine post _ rt (fu lo q (lo p)) (fu hi p (K q)) ?_ ?_ ?_ ?_ ?_ ?_ ?_ ?_
      · exact (((TCh.pR hp (by decide)).trans (TCh.pR z0.1 (by decide))).trans (TCh.pR q0.1 (by decide))).trans (((TCh.pR s0.1 (by decide)).trans (TCh.pR q0.1 (by decide))).trans (TCh.pR hp (by decide)))
      · unfold trH
        simp (disch := decide) only [fuR_eq, fuR_ne, fuR_i]
        exact rotL_ls tr hp hq hs sl hz
      · rw [hR_putR, if_pos ⟨rfl, rfl⟩]
      · rw [hR_putR, if_neg (am_ne qp), hR_putR, if_neg (fun w => absurd w.2 (by decide)), hR_putR, if_neg (fun w => absurd w.2 (by decide)), hR_putR, if_pos ⟨rfl, rfl⟩, hs]
      · intro w w1 w2 w3
        rw [hR_putR, if_neg (am_ne w1), hR_putR, if_neg (fun y => absurd y.2 (by decide)), hR_putR, if_neg (fun y => absurd y.2 (by decide)), hR_putR, if_neg (am_ne w2), hR_putR, if_neg (am_ne (fun e => w3 (by rw [e]; exact hz))), hR_putR, if_neg (fun y => absurd y.2 (by decide))]
      · intro w
        exact Or.inl rfl
      · unfold fu
        rw [if_neg]
        rintro rfl
        exact absurd (q0.2.1.symm.trans tr.2.1) (by simp)
      · unfold fu
        rw [if_neg]
        rintro rfl
        exact absurd (hs.symm.trans tr.2.1) (by simp)
    · have sr : hR h s 6 = some p := by
        rcases s0.2 with w | w
        · exact absurd w sl
        · exact w
      rw [if_pos sl, sJ21_rotateLeft_74, sJ21_rotateLeft_75, sJ21_rotateLeft_76 (by exact ks), sJ21_rotateLeft_79, sJ21_rotateLeft_80, sJ21_rotateLeft_81 (by exact kq), sJ21_rotateLeft_84, sJ21_rotateLeft_85, sJ21_rotateLeft_86 (by exact kp), sJ21_rotateLeft_89, sJ21_rotateLeft_90]
      clear sl
      have sl := sr
      refine post _ rt (fu lo q (lo p)) (fu hi p (K q)) ?_ ?_ ?_ ?_ ?_ ?_ ?_ ?_
      · exact (((TCh.pR hp (by decide)).trans (TCh.pR z0.1 (by decide))).trans (TCh.pR q0.1 (by decide))).trans (((TCh.pR s0.1 (by decide)).trans (TCh.pR q0.1 (by decide))).trans (TCh.pR hp (by decide)))
      · unfold trH
        simp (disch := decide) only [fuR_eq, fuR_ne, fuR_i]
        exact rotL_rs tr hp hq hs sl hz
      · rw [hR_putR, if_pos ⟨rfl, rfl⟩]
      · rw [hR_putR, if_neg (am_ne qp), hR_putR, if_neg (fun w => absurd w.2 (by decide)), hR_putR, if_neg (fun w => absurd w.2 (by decide)), hR_putR, if_pos ⟨rfl, rfl⟩, hs]
      · intro w w1 w2 w3
        rw [hR_putR, if_neg (am_ne w1), hR_putR, if_neg (fun y => absurd y.2 (by decide)), hR_putR, if_neg (fun y => absurd y.2 (by decide)), hR_putR, if_neg (am_ne w2), hR_putR, if_neg (am_ne (fun e => w3 (by rw [e]; exact hz))), hR_putR, if_neg (fun y => absurd y.2 (by decide))]
      · intro w
        exact Or.inl rfl
      · unfold fu
        rw [if_neg]
        rintro rfl
        exact absurd (q0.2.1.symm.trans tr.2.1) (by simp)
      · unfold fu
        rw [if_neg]
        rintro rfl
        exact absurd (hs.symm.trans tr.2.1) (by simp)
theorem v_rotR (tr : trH h K B rt lo hi) (k13 : ∀ x, B x → hK h x = 13) (hp : B p) (hq : hR h p 5 = some q)
    (post : ∀ h' rt' lo' hi', TCh B h h' → trH h' K B rt' lo' hi' → hR h' p 4 = some q → hR h' q 4 = hR h p 4 → (∀ z, z ≠ p → z ≠ q → hR h q 6 ≠ some z → hR h' z 4 = hR h z 4) → (∀ z, hI h' z 8 = hI h z 8 ∨ hI h' z 8 = 0) → lo' rt' = lo rt → hi' rt' = hi rt → Q (Sum.inl (some (vR (some rt')))) h') :
    Cl r 295 [vR (some rt), vR (some p)] h Q := by
  have q0 : B q ∧ hR h q 4 = some p ∧ lo q = lo p ∧ hi q = K p := tr.lf hp hq
  have kp := k13 p hp
  have kq := k13 q q0.1
  have q1 := tr.2.2.2.1 p hp
  have q2 := tr.2.2.2.1 q q0.1
  have qp : q ≠ p := by rintro rfl; omega
  have pq : p ≠ q := Ne.symm qp
  rw [eJ21_rotateRight, sJ21_rotateRight_0, sJ21_rotateRight_1, if_neg (by simp), sJ21_rotateRight_4, sJ21_rotateRight_5 kp, hq, sJ21_rotateRight_8, sJ21_rotateRight_9, sJ21_rotateRight_10, if_neg (by simp), sJ21_rotateRight_13, sJ21_rotateRight_14, sJ21_rotateRight_15 kq, sJ21_rotateRight_18, sJ21_rotateRight_19 (by exact kp), sJ21_rotateRight_22, sJ21_rotateRight_23, sJ21_rotateRight_25]
  cases hz : hR h q 6 with
  | none =>
    rw [if_pos rfl]
    rw [sJ21_rotateRight_34, sJ21_rotateRight_35, sJ21_rotateRight_36 (by exact kp), hR_putR, if_neg (fun w => absurd w.2 (by decide))]
    rw [sJ21_rotateRight_39, sJ21_rotateRight_40 (by exact kq), sJ21_rotateRight_43, sJ21_rotateRight_44, sJ21_rotateRight_45]
    cases hs : hR h p 4 with
    | none =>
      rw [if_neg (fun w => w rfl), sJ21_rotateRight_48, sJ21_rotateRight_49, sJ21_rotateRight_50, sJ21_rotateRight_51, sJ21_rotateRight_52 (by exact kq) rfl, sJ21_rotateRight_55, sJ21_rotateRight_79, sJ21_rotateRight_80, sJ21_rotateRight_81 (by exact kq), sJ21_rotateRight_84, sJ21_rotateRight_85, sJ21_rotateRight_86 (by exact kp), sJ21_rotateRight_89, sJ21_rotateRight_90]
      refine post _ q (fu lo p (K q)) (fu hi q (hi p)) ?_ ?_ ?_ ?_ ?_ ?_ ?_ ?_
      · exact ((TCh.pR hp (by decide)).trans (TCh.pR q0.1 (by decide))).trans (((TCh.pI q0.1).trans (TCh.pR q0.1 (by decide))).trans (TCh.pR hp (by decide)))
      · unfold trH
        simp (disch := decide) only [fuR_eq, fuR_ne, fuR_i]
        exact rotR_nn tr hp hq hs hz
      · rw [hR_putR, if_pos ⟨rfl, rfl⟩]
      · rw [hR_putR, if_neg (am_ne qp), hR_putR, if_neg (fun w => absurd w.2 (by decide)), hR_putI, hR_putR, if_pos ⟨rfl, rfl⟩, hs]
      · intro w w1 w2 w3
        rw [hR_putR, if_neg (am_ne w1), hR_putR, if_neg (fun y => absurd y.2 (by decide)), hR_putI, hR_putR, if_neg (am_ne w2), hR_putR, if_neg (fun y => absurd y.2 (by decide))]
      · intro w
        rw [hI_putR, hI_putR, hI_putI]
        split
        · exact Or.inr rfl
        · exact Or.inl rfl
      · unfold fu
        rw [if_neg qp, q0.2.2.1, tr.top hp hs]
      · unfold fu
        rw [if_pos rfl, tr.top hp hs]
    | some s =>
      have s0 := tr.up hp hs
      have ks := k13 s s0.1
      have s1 := tr.2.2.2.1 s s0.1
      rw [if_pos (by simp), sJ21_rotateRight_58]
      have rd : hR (putR (putR h p 5 none) q 4 (some s)) s 6 = if s = p ∧ 6 = 5 then none else hR h s 6 := by
        rw [hR_putR, if_neg (fun w => absurd w.2 (by decide)), hR_putR]
      have sp : s ≠ p := by
        rintro rfl
        rcases s0.2 with w | w
        · have := tr.lf s0.1 w; omega
        · have := tr.rt s0.1 w; omega
      rw [if_neg (am_ne sp)] at rd
      rw [sJ21_rotateRight_59 (by exact ks), rd, sJ21_rotateRight_62, sJ21_rotateRight_63]
      by_cases sl : hR h s 6 = some p
      · rw [sl, if_neg (fun w => w rfl), sJ21_rotateRight_66, sJ21_rotateRight_67, sJ21_rotateRight_68 (by exact ks), sJ21_rotateRight_71, sJ21_rotateRight_79, sJ21_rotateRight_80, sJ21_rotateRight_81 (by exact kq), sJ21_rotateRight_84, sJ21_rotateRight_85, sJ21_rotateRight_86 (by exact kp), sJ21_rotateRight_89, sJ21_rotateRight_90]
        refine post _ rt (fu lo p (K q)) (fu hi q (hi p)) ?_ ?_ ?_ ?_ ?_ ?_ ?_ ?_
        · exact ((TCh.pR hp (by decide)).trans (TCh.pR q0.1 (by decide))).trans (((TCh.pR s0.1 (by decide)).trans (TCh.pR q0.1 (by decide))).trans (TCh.pR hp (by decide)))
        · unfold trH
          simp (disch := decide) only [fuR_eq, fuR_ne, fuR_i]
          exact rotR_rn tr hp hq hs sl hz
        · rw [hR_putR, if_pos ⟨rfl, rfl⟩]
        · rw [hR_putR, if_neg (am_ne qp), hR_putR, if_neg (fun w => absurd w.2 (by decide)), hR_putR, if_neg (fun w => absurd w.2 (by decide)), hR_putR, if_pos ⟨rfl, rfl⟩, hs]
        · intro w w1 w2 w3
          rw [hR_putR, if_neg (am_ne w1), hR_putR, if_neg (fun y => absurd y.2 (by decide)), hR_putR, if_neg (fun y => absurd y.2 (by decide)), hR_putR, if_neg (am_ne w2), hR_putR, if_neg (fun y => absurd y.2 (by decide))]
        · intro w
          exact Or.inl rfl
        · unfold fu
          rw [if_neg]
          rintro rfl
          exact absurd (hs.symm.trans tr.2.1) (by simp)
        · unfold fu
          rw [if_neg]
          rintro rfl
          exact absurd (q0.2.1.symm.trans tr.2.1) (by simp)
      · have sr : hR h s 5 = some p := by
          rcases s0.2 with w | w
          · exact w
          · exact absurd w sl
        rw [if_pos sl, sJ21_rotateRight_74, sJ21_rotateRight_75, sJ21_rotateRight_76 (by exact ks), sJ21_rotateRight_79, sJ21_rotateRight_80, sJ21_rotateRight_81 (by exact kq), sJ21_rotateRight_84, sJ21_rotateRight_85, sJ21_rotateRight_86 (by exact kp), sJ21_rotateRight_89, sJ21_rotateRight_90]
        clear sl
        have sl := sr
        refine post _ rt (fu lo p (K q)) (fu hi q (hi p)) ?_ ?_ ?_ ?_ ?_ ?_ ?_ ?_
        · exact ((TCh.pR hp (by decide)).trans (TCh.pR q0.1 (by decide))).trans (((TCh.pR s0.1 (by decide)).trans (TCh.pR q0.1 (by decide))).trans (TCh.pR hp (by decide)))
        · unfold trH
          simp (disch := decide) only [fuR_eq, fuR_ne, fuR_i]
          exact rotR_ln tr hp hq hs sl hz
        · rw [hR_putR, if_pos ⟨rfl, rfl⟩]
        · rw [hR_putR, if_neg (am_ne qp), hR_putR, if_neg (fun w => absurd w.2 (by decide)), hR_putR, if_neg (fun w => absurd w.2 (by decide)), hR_putR, if_pos ⟨rfl, rfl⟩, hs]
        · intro w w1 w2 w3
          rw [hR_putR, if_neg (am_ne w1), hR_putR, if_neg (fun y => absurd y.2 (by decide)), hR_putR, if_neg (fun y => absurd y.2 (by decide)), hR_putR, if_neg (am_ne w2), hR_putR, if_neg (fun y => absurd y.2 (by decide))]
        · intro w
          exact Or.inl rfl
        · unfold fu
          rw [if_neg]
          rintro rfl
          exact absurd (hs.symm.trans tr.2.1) (by simp)
        · unfold fu
          rw [if_neg]
          rintro rfl
          exact absurd (q0.2.1.symm.trans tr.2.1) (by simp)
  | some z =>
  have z0 : B z ∧ hR h z 4 = some q ∧ lo z = K q ∧ hi z = hi q := tr.rt q0.1 hz
  have kz := k13 z z0.1
  have z1 := tr.2.2.2.1 z z0.1
  have zp : z ≠ p := by rintro rfl; omega
  have zq : z ≠ q := by rintro rfl; omega
  rw [if_neg (by simp), sJ21_rotateRight_28, sJ21_rotateRight_30, sJ21_rotateRight_31 (by exact kz)]
  rw [sJ21_rotateRight_34, sJ21_rotateRight_35, sJ21_rotateRight_36 (by exact kp), hR_putR, if_neg (am_ne (Ne.symm zp)), hR_putR, if_neg (fun w => absurd w.2 (by decide))]
  rw [sJ21_rotateRight_39, sJ21_rotateRight_40 (by exact kq), sJ21_rotateRight_43, sJ21_rotateRight_44, sJ21_rotateRight_45]
  cases hs : hR h p 4 with
  | none =>
    rw [if_neg (fun w => w rfl), sJ21_rotateRight_48, sJ21_rotateRight_49, sJ21_rotateRight_50, sJ21_rotateRight_51, sJ21_rotateRight_52 (by exact kq) rfl, sJ21_rotateRight_55, sJ21_rotateRight_79, sJ21_rotateRight_80, sJ21_rotateRight_81 (by exact kq), sJ21_rotateRight_84, sJ21_rotateRight_85, sJ21_rotateRight_86 (by exact kp), sJ21_rotateRight_89, sJ21_rotateRight_90]
    refine post _ q (fu lo p (K q)) (fu hi q (hi p)) ?_ ?_ ?_ ?_ ?_ ?_ ?_ ?_
    · exact (((TCh.pR hp (by decide)).trans (TCh.pR z0.1 (by decide))).trans (TCh.pR q0.1 (by decide))).trans (((TCh.pI q0.1).trans (TCh.pR q0.1 (by decide))).trans (TCh.pR hp (by decide)))
    · unfold trH
      simp (disch := decide) only [fuR_eq, fuR_ne, fuR_i]
      exact rotR_ns tr hp hq hs hz
    · rw [hR_putR, if_pos ⟨rfl, rfl⟩]
    · rw [hR_putR, if_neg (am_ne qp), hR_putR, if_neg (fun w => absurd w.2 (by decide)), hR_putI, hR_putR, if_pos ⟨rfl, rfl⟩, hs]
    · intro w w1 w2 w3
      rw [hR_putR, if_neg (am_ne w1), hR_putR, if_neg (fun y => absurd y.2 (by decide)), hR_putI, hR_putR, if_neg (am_ne w2), hR_putR, if_neg (am_ne (fun e => w3 (by rw [e]; exact hz))), hR_putR, if_neg (fun y => absurd y.2 (by decide))]
    · intro w
      rw [hI_putR, hI_putR, hI_putI]
      split
      · exact Or.inr rfl
      · exact Or.inl rfl
    · unfold fu
      rw [if_neg qp, q0.2.2.1, tr.top hp hs]
    · unfold fu
      rw [if_pos rfl, tr.top hp hs]
  | some s =>
    have s0 := tr.up hp hs
    have ks := k13 s s0.1
    have s1 := tr.2.2.2.1 s s0.1
    rw [if_pos (by simp), sJ21_rotateRight_58]
    have rd : hR (putR (putR (putR h p 5 (some z)) z 4 (some p)) q 4 (some s)) s 6 = if s = p ∧ 6 = 5 then some z else hR h s 6 := by
      rw [hR_putR, if_neg (fun w => absurd w.2 (by decide)), hR_putR, if_neg (fun w => absurd w.2 (by decide)), hR_putR]
    have sp : s ≠ p := by
      rintro rfl
      rcases s0.2 with w | w
      · have := tr.lf s0.1 w; omega
      · have := tr.rt s0.1 w; omega
    rw [if_neg (am_ne sp)] at rd
    rw [sJ21_rotateRight_59 (by exact ks), rd, sJ21_rotateRight_62, sJ21_rotateRight_63]
    by_cases sl : hR h s 6 = some p
    · rw [sl, if_neg (fun w => w rfl), sJ21_rotateRight_66, sJ21_rotateRight_67, sJ21_rotateRight_68 (by exact ks), sJ21_rotateRight_71, sJ21_rotateRight_79, sJ21_rotateRight_80, sJ21_rotateRight_81 (by exact kq), sJ21_rotateRight_84, sJ21_rotateRight_85, sJ21_rotateRight_86 (by exact kp), sJ21_rotateRight_89, sJ21_rotateRight_90]
      refine post _ rt (fu lo p (K q)) (fu hi q (hi p)) ?_ ?_ ?_ ?_ ?_ ?_ ?_ ?_
      · exact (((TCh.pR hp (by decide)).trans (TCh.pR z0.1 (by decide))).trans (TCh.pR q0.1 (by decide))).trans (((TCh.pR s0.1 (by decide)).trans (TCh.pR q0.1 (by decide))).trans (TCh.pR hp (by decide)))
      · unfold trH
        simp (disch := decide) only [fuR_eq, fuR_ne, fuR_i]
        exact rotR_rs tr hp hq hs sl hz
      · rw [hR_putR, if_pos ⟨rfl, rfl⟩]
      · rw [hR_putR, if_neg (am_ne qp), hR_putR, if_neg (fun w => absurd w.2 (by decide)), hR_putR, if_neg (fun w => absurd w.2 (by decide)), hR_putR, if_pos ⟨rfl, rfl⟩, hs]
      · intro w w1 w2 w3
        rw [hR_putR, if_neg (am_ne w1), hR_putR, if_neg (fun y => absurd y.2 (by decide)), hR_putR, if_neg (fun y => absurd y.2 (by decide)), hR_putR, if_neg (am_ne w2), hR_putR, if_neg (am_ne (fun e => w3 (by rw [e]; exact hz))), hR_putR, if_neg (fun y => absurd y.2 (by decide))]
      · intro w
        exact Or.inl rfl
      · unfold fu
        rw [if_neg]
        rintro rfl
        exact absurd (hs.symm.trans tr.2.1) (by simp)
      · unfold fu
        rw [if_neg]
        rintro rfl
        exact absurd (q0.2.1.symm.trans tr.2.1) (by simp)
    · have sr : hR h s 5 = some p := by
        rcases s0.2 with w | w
        · exact w
        · exact absurd w sl
      rw [if_pos sl, sJ21_rotateRight_74, sJ21_rotateRight_75, sJ21_rotateRight_76 (by exact ks), sJ21_rotateRight_79, sJ21_rotateRight_80, sJ21_rotateRight_81 (by exact kq), sJ21_rotateRight_84, sJ21_rotateRight_85, sJ21_rotateRight_86 (by exact kp), sJ21_rotateRight_89, sJ21_rotateRight_90]
      clear sl
      have sl := sr
      refine post _ rt (fu lo p (K q)) (fu hi q (hi p)) ?_ ?_ ?_ ?_ ?_ ?_ ?_ ?_
      · exact (((TCh.pR hp (by decide)).trans (TCh.pR z0.1 (by decide))).trans (TCh.pR q0.1 (by decide))).trans (((TCh.pR s0.1 (by decide)).trans (TCh.pR q0.1 (by decide))).trans (TCh.pR hp (by decide)))
      · unfold trH
        simp (disch := decide) only [fuR_eq, fuR_ne, fuR_i]
        exact rotR_ls tr hp hq hs sl hz
      · rw [hR_putR, if_pos ⟨rfl, rfl⟩]
      · rw [hR_putR, if_neg (am_ne qp), hR_putR, if_neg (fun w => absurd w.2 (by decide)), hR_putR, if_neg (fun w => absurd w.2 (by decide)), hR_putR, if_pos ⟨rfl, rfl⟩, hs]
      · intro w w1 w2 w3
        rw [hR_putR, if_neg (am_ne w1), hR_putR, if_neg (fun y => absurd y.2 (by decide)), hR_putR, if_neg (fun y => absurd y.2 (by decide)), hR_putR, if_neg (am_ne w2), hR_putR, if_neg (am_ne (fun e => w3 (by rw [e]; exact hz))), hR_putR, if_neg (fun y => absurd y.2 (by decide))]
      · intro w
        exact Or.inl rfl
      · unfold fu
        rw [if_neg]
        rintro rfl
        exact absurd (hs.symm.trans tr.2.1) (by simp)
      · unfold fu
        rw [if_neg]
        rintro rfl
        exact absurd (q0.2.1.symm.trans tr.2.1) (by simp)
end ROT2
