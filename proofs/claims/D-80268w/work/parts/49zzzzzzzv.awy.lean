/-! COMPONENT, 101: the head of a method, what has come so far *-/
def AW (R : Nat → Nat) (w : Int) (v : vT) (S U : tSt) (vk : vT) (Sk : tSt) (am nm : Nat) (n p n2 p2 fr cn cs : Int) : Prop :=
  (Fw (Xw R) v vk ∧ PT vk (R 0) (R 1) (R 2) Sk ∧ Tks S Sk ∧ Sk 52 0 = -1 ∧ S 47 0 ≤ Sk 47 0) ∧
  (hN v.1 ≤ am ∧ hK vk.1 am = 18 ∧ hI vk.1 am 1 = iI (U 9 w) ∧ hI vk.1 am 2 = iI p ∧ hI vk.1 am 3 = bI (fr ≠ 0) ∧ (n2 = 0 → hR vk.1 am 4 = none) ∧ (n2 ≠ 0 → TXn vk (hR vk.1 am 4) n2 ∧ hI vk.1 am 5 = iI p2) ∧ hR vk.1 am 6 = none ∧ hR vk.1 am 8 = none) ∧
  TN1 vk nm n ∧ hR vk.1 (R 0) 8 = some am ∧ vLs vk (R 6) = vLs v (R 6) ++ [some am] ∧ (∀ t, vMp vk (R 7) t = if t = vTx vk nm ∧ vMp v (R 7) t = none then some am else vMp v (R 7) t) ∧
  (∃ L, L.Perm (mPar U w) ∧ L.length ≤ 2600 ∧ ML vk (R 9) (insA (insA [] L) (if mO U w n = -1 then [] else [(2, (p, -1))]))) ∧ RM (R 9) v vk cn cs
section AWS
variable {R : Nat → Nat} {A : Nat → Int → Nat} {T : Nat → Nat} {w p0 n p n2 p2 fr n2' p2' fr' cn cs cn' cs' : Int} {h : am_H} {v vk vk' : vT} {S Sk Sk' U : tSt} {r am nm : Nat} {Q : am_O → am_H → Prop} {Y : Nat → Nat → Prop}
theorem AW_mv (tj : TJ R A T w p0 v S U) (aw : AW R w v S U vk Sk am nm n p n2 p2 fr cn cs) (f : Fw Y vk vk') (hy : ∀ a k, Y a k → Xq (R 0) (R 2) a k ∨ (a = am ∧ (k = 3 ∨ k = 4 ∨ k = 5))) (t' : PT vk' (R 0) (R 1) (R 2) Sk') (tks : Tks Sk Sk') (s52 : Sk' 52 0 = -1) (s47 : Sk 47 0 ≤ Sk' 47 0)
    (h3 : hI vk'.1 am 3 = bI (fr' ≠ 0)) (h4 : n2' = 0 → hR vk'.1 am 4 = none) (h5 : n2' ≠ 0 → TXn vk' (hR vk'.1 am 4) n2' ∧ hI vk'.1 am 5 = iI p2') (b1 : (hN vk'.1 : Int) ≤ hN vk.1 + cn') (b2 : hS vk.1 ≤ hS vk'.1) (b3 : (hS vk'.1 : Int) ≤ hS vk.1 + cs') : AW R w v S U vk' Sk' am nm n p n2' p2' fr' (cn + cn') (cs + cs') := by
  obtain ⟨⟨a1, a2, a3, a4, a5⟩, ⟨b0, k18, f1, f2, f3, f4, f5, f6, f8⟩, tn, r8, ls, mp, ⟨L, l1, l2, l3⟩, rm⟩ := aw
  obtain ⟨g, rk, kl, mt⟩ := tj
  obtain ⟨g1, g2, g3, g4, g5, g6, _, ⟨L0, g9, _⟩, _⟩ := g
  have k0 := a2.w0.1
  have k2 := a2.w0.2.1
  have k9 : hK vk.1 (R 9) = 4 := a1.kk (g9.1.choose_spec.1.1) (by decide)
  have k6 := a1.kk mt.1.2.1 (by decide)
  have k7 := a1.kk mt.2.1.2.1.1 (by decide)
  have ny : ∀ {a m k : Nat}, hK vk.1 a = m → m ≠ 0 → m ≠ 2 → m ≠ 3 → m ≠ 18 → ¬ Y a k := fun {a m k} e h0 h2 h3 h18 y => by
    rcases hy a k y with (z | z) | z
    · rw [z.1, k0] at e; omega
    · rw [z.1, k2] at e; omega
    · rw [z.1, k18] at e; omega
  have na : ∀ k, k ≠ 3 → k ≠ 4 → k ≠ 5 → ¬ Y am k := fun k h3 h4 h5 y => by
    rcases hy am k y with (z | z) | z
    · rw [z.1, k0] at k18; exact absurd k18 (by decide)
    · rw [z.1, k2] at k18; exact absurd k18 (by decide)
    · omega
  have n8 : ¬ Y (R 0) 8 := fun y => by
    rcases hy _ _ y with (z | z) | z
    · omega
    · omega
    · omega
  have q := fun k h3 h4 h5 => f.ff (k := k) (hK_lt k18 (by decide)) (na k h3 h4 h5)
  have tx : vTx vk' nm = vTx vk nm := (f.cc (hK_lt tn.1 (by decide)) (ny tn.1 (by decide) (by decide) (by decide) (by decide))).2.2.2
  have cp : vCp vk' (R 9) = vCp vk (R 9) := (f.cc (hK_lt k9 (by decide)) (ny k9 (by decide) (by decide) (by decide) (by decide))).2.2.1
  have lam := hK_lt k18 (by decide)
  refine ⟨⟨a1.tr2 f (fun a k y => ?_), t', a3.tr tks, s52, by omega⟩, ⟨b0, f.kk k18 (by decide), by rw [(q 1 (by decide) (by decide) (by decide)).1]; exact f1, by rw [(q 2 (by decide) (by decide) (by decide)).1]; exact f2, h3, h4, h5, by rw [(q 6 (by decide) (by decide) (by decide)).2.2]; exact f6, by rw [(q 8 (by decide) (by decide) (by decide)).2.2]; exact f8⟩, ⟨f.kk tn.1 (by decide), by rw [tx]; exact tn.2.1, by rw [tx]; exact tn.2.2⟩, by rw [(f.ff (hK_lt k0 (by decide)) n8).2.2]; exact r8, by rw [(f.cc (hK_lt k6 (by decide)) (ny k6 (by decide) (by decide) (by decide) (by decide))).1]; exact ls, fun t => by rw [(f.cc (hK_lt k7 (by decide)) (ny k7 (by decide) (by decide) (by decide) (by decide))).2.1, tx]; exact mp t, ⟨L, l1, l2, ML_fw f l3 (ny k9 (by decide) (by decide) (by decide) (by decide)) (fun a k y _ e => ny e (by decide) (by decide) (by decide) (by decide) y)⟩, ?_⟩
  · rcases hy a k y with z | z
    · exact Or.inr (Or.inl z)
    · exact Or.inl (by rw [z.1]; exact b0)
  · exact rm.trans ⟨f.1, by omega, b2, by rw [cp]; omega, by rw [cp]; exact Nat.le_refl _⟩
end AWS
