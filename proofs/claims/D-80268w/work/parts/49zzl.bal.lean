/-! JDK: maps, 5: a tree is balanced behind a new leaf; printed by gen_bal.py *-/
section BAL
variable {B : Nat → Prop} {r : Nat} {K : Nat → Int} {Q : am_O → am_H → Prop}
theorem bal_fin {h : am_H} {rt x xp : Nat} (kx : hK h x = 13) (kp : hK h xp = 13) (hp : hR h x 4 = some xp) (rd : hI h xp 8 = 0) (l2 l3 l4 l5 : Option am_V) : Rn r 260 5 [some (vR (some rt)), some (vR (some x)), l2, l3, l4, l5] [] h Q ↔ Q (Sum.inl (some (vR (some rt)))) h := by
  rw [sJ21_balanceInsertion_5, sJ21_balanceInsertion_6 kx, hp, sJ21_balanceInsertion_9, sJ21_balanceInsertion_10, sJ21_balanceInsertion_11, if_pos (by simp), sJ21_balanceInsertion_21, sJ21_balanceInsertion_22 kp, rd, sJ21_balanceInsertion_25, if_pos rfl, sJ21_balanceInsertion_37, sJ21_balanceInsertion_38]
theorem bal_end {h : am_H} {rt x : Nat} {lo hi : Nat → Int} (tr : trH h K B rt lo hi) (k13 : ∀ x, B x → hK h x = 13) (hx : B x) (post : ∀ h' rt' lo' hi', TCh B h h' → trH h' K B rt' lo' hi' → lo' rt' = lo rt → hi' rt' = hi rt → Q (Sum.inl (some (vR (some rt')))) h') (rd : ∀ xp, hR h x 4 = some xp → hI h xp 8 = 0) (l2 l3 l4 l5 : Option am_V) :
    Rn r 260 5 [some (vR (some rt)), some (vR (some x)), l2, l3, l4, l5] [] h Q := by
  cases hp : hR h x 4 with
  | none =>
    have e : x = rt := tr.top hx hp
    rw [sJ21_balanceInsertion_5, sJ21_balanceInsertion_6 (k13 x hx), hp, sJ21_balanceInsertion_9, sJ21_balanceInsertion_10, sJ21_balanceInsertion_11, if_neg (fun w => w rfl), sJ21_balanceInsertion_14, sJ21_balanceInsertion_15, sJ21_balanceInsertion_16 (k13 x hx) rfl, sJ21_balanceInsertion_19, sJ21_balanceInsertion_20]
    exact post _ x lo hi (TCh.pI hx) (by rw [e]; exact tr) (by rw [e]) (by rw [e])
  | some xp =>
    rw [bal_fin (k13 x hx) (k13 xp (tr.up hx hp).1) hp (rd xp hp)]
    exact post _ _ _ _ TCh.refl tr rfl rfl
theorem bal_rotL {h : am_H} {rt x xp xpp : Nat} {lo hi : Nat → Int} (tr : trH h K B rt lo hi) (k13 : ∀ x, B x → hK h x = 13) (hx : B x) (hxp : hR h x 4 = some xp) (hxpp : hR h xp 4 = some xpp) (hc : hR h xpp 5 = some xp) (hd : hR h xp 6 ≠ some x)
    (post : ∀ h' rt' lo' hi', TCh B h h' → trH h' K B rt' lo' hi' → lo' rt' = lo rt → hi' rt' = hi rt → Q (Sum.inl (some (vR (some rt')))) h') (l4 l5 : Option am_V) :
    Rn r 260 123 [some (vR (some rt)), some (vR (some x)), some (vR (some xp)), some (vR (some xpp)), l4, l5] [] h Q := by
  have b1 := (tr.up hx hxp).1
  have b2 := (tr.up b1 hxpp).1
  have k1 := k13 xp b1
  have k2 := k13 xpp b2
  have c1 := tr.2.2.2.1 xp b1
  have c2 := tr.2.2.2.1 xpp b2
  have c0 := tr.2.2.2.1 x hx
  have lf := tr.lf b2 hc
  have cx : hR h xp 5 = some x := by
    rcases (tr.up hx hxp).2 with w | w
    · exact w
    · exact absurd w hd
  have lx := tr.lf b1 cx
  have n1 : xp ≠ xpp := by rintro rfl; omega
  have n2 : x ≠ xpp := by rintro rfl; omega
  have n3 : x ≠ xp := by rintro rfl; omega
  rw [sJ21_balanceInsertion_123, sJ21_balanceInsertion_124, if_neg (by simp), sJ21_balanceInsertion_127, sJ21_balanceInsertion_128, sJ21_balanceInsertion_129 k1 rfl, sJ21_balanceInsertion_132, sJ21_balanceInsertion_133, if_neg (by simp), sJ21_balanceInsertion_136, sJ21_balanceInsertion_137, sJ21_balanceInsertion_138 (by exact k2) rfl, sJ21_balanceInsertion_141, sJ21_balanceInsertion_142, sJ21_balanceInsertion_143]
  refine v_rotR (B := B) (K := K) (lo := lo) (hi := hi) (h := putI (putI h xp 8 0) xpp 8 1) tr k13 b2 hc (fun h' rt' lo' hi' tc tr' e1 e2 e3 e4 e5 e6 => ?_)
  rw [Kt_v, sJ21_balanceInsertion_146, sJ21_balanceInsertion_147]
  refine bal_end tr' (fun y hy => by rw [tc.kk]; exact k13 y hy) hx (fun h2 rt2 lo2 hi2 tc2 tr2 w1 w2 => post h2 rt2 lo2 hi2 (((TCh.pI b1).trans (TCh.pI b2)).trans (tc.trans tc2)) tr2 (w1.trans e5) (w2.trans e6)) (fun y hy => ?_) _ _ _ _
  have ep : hR h' x 4 = some xp := by
    rw [e3 x n2 n3 (by rw [hR_putI, hR_putI]; exact hd), hR_putI, hR_putI]
    exact hxp
  rw [ep] at hy
  cases hy
  rcases e4 xp with z | z
  · rw [z, hI_putI, if_neg (am_ne n1), hI_putI, if_pos ⟨rfl, rfl⟩]
  · exact z
theorem bal_rotR {h : am_H} {rt x xp xpp : Nat} {lo hi : Nat → Int} (tr : trH h K B rt lo hi) (k13 : ∀ x, B x → hK h x = 13) (hx : B x) (hxp : hR h x 4 = some xp) (hxpp : hR h xp 4 = some xpp) (hc : hR h xpp 6 = some xp) (hd : hR h xp 5 ≠ some x)
    (post : ∀ h' rt' lo' hi', TCh B h h' → trH h' K B rt' lo' hi' → lo' rt' = lo rt → hi' rt' = hi rt → Q (Sum.inl (some (vR (some rt')))) h') (l4 l5 : Option am_V) :
    Rn r 260 218 [some (vR (some rt)), some (vR (some x)), some (vR (some xp)), some (vR (some xpp)), l4, l5] [] h Q := by
  have b1 := (tr.up hx hxp).1
  have b2 := (tr.up b1 hxpp).1
  have k1 := k13 xp b1
  have k2 := k13 xpp b2
  have c1 := tr.2.2.2.1 xp b1
  have c2 := tr.2.2.2.1 xpp b2
  have c0 := tr.2.2.2.1 x hx
  have lf := tr.rt b2 hc
  have cx : hR h xp 6 = some x := by
    rcases (tr.up hx hxp).2 with w | w
    · exact absurd w hd
    · exact w
  have lx := tr.rt b1 cx
  have n1 : xp ≠ xpp := by rintro rfl; omega
  have n2 : x ≠ xpp := by rintro rfl; omega
  have n3 : x ≠ xp := by rintro rfl; omega
  rw [sJ21_balanceInsertion_218, sJ21_balanceInsertion_219, if_neg (by simp), sJ21_balanceInsertion_222, sJ21_balanceInsertion_223, sJ21_balanceInsertion_224 k1 rfl, sJ21_balanceInsertion_227, sJ21_balanceInsertion_228, if_neg (by simp), sJ21_balanceInsertion_231, sJ21_balanceInsertion_232, sJ21_balanceInsertion_233 (by exact k2) rfl, sJ21_balanceInsertion_236, sJ21_balanceInsertion_237, sJ21_balanceInsertion_238]
  refine v_rotL (B := B) (K := K) (lo := lo) (hi := hi) (h := putI (putI h xp 8 0) xpp 8 1) tr k13 b2 hc (fun h' rt' lo' hi' tc tr' e1 e2 e3 e4 e5 e6 => ?_)
  rw [Kt_v, sJ21_balanceInsertion_241, sJ21_balanceInsertion_242]
  refine bal_end tr' (fun y hy => by rw [tc.kk]; exact k13 y hy) hx (fun h2 rt2 lo2 hi2 tc2 tr2 w1 w2 => post h2 rt2 lo2 hi2 (((TCh.pI b1).trans (TCh.pI b2)).trans (tc.trans tc2)) tr2 (w1.trans e5) (w2.trans e6)) (fun y hy => ?_) _ _ _ _
  have ep : hR h' x 4 = some xp := by
    rw [e3 x n2 n3 (by rw [hR_putI, hR_putI]; exact hd), hR_putI, hR_putI]
    exact hxp
  rw [ep] at hy
  cases hy
  rcases e4 xp with z | z
  · rw [z, hI_putI, if_neg (am_ne n1), hI_putI, if_pos ⟨rfl, rfl⟩]
  · exact z
theorem v_bal : ∀ (d : Nat) (h : am_H) (rt x : Nat) (lo hi : Nat → Int), tM rt lo hi x < d → trH h K B rt lo hi → (∀ x, B x → hK h x = 13) → B x → (∀ h' rt' lo' hi', TCh B h h' → trH h' K B rt' lo' hi' → lo' rt' = lo rt → hi' rt' = hi rt → Q (Sum.inl (some (vR (some rt')))) h') → ∀ l2 l3 l4 l5,
    Rn r 260 5 [some (vR (some rt)), some (vR (some x)), l2, l3, l4, l5] [] h Q := by
  intro d
  induction d with
  | zero =>
    intro h rt x lo hi hd tr k13 hx post
    have := tr.2.2.1 x hx
    have := tr.2.2.2.1 x hx
    unfold tM at hd
    omega
  | succ d ih =>
    intro h rt x lo hi hd tr k13 hx post l2 l3 l4 l5
    by_cases e0 : ∀ xp, hR h x 4 = some xp → hI h xp 8 = 0
    · exact bal_end tr k13 hx post e0 _ _ _ _
    · obtain ⟨xp, hp, rd⟩ : ∃ xp, hR h x 4 = some xp ∧ hI h xp 8 ≠ 0 := by
        refine Classical.byContradiction fun q => e0 (fun xp hp => Classical.byContradiction fun w => q ⟨xp, hp, w⟩)
      have b1 := tr.up hx hp
      have kx := k13 x hx
      have k1 := k13 xp b1.1
      rw [sJ21_balanceInsertion_5, sJ21_balanceInsertion_6 kx, hp, sJ21_balanceInsertion_9, sJ21_balanceInsertion_10, sJ21_balanceInsertion_11, if_pos (by simp), sJ21_balanceInsertion_21, sJ21_balanceInsertion_22 k1, sJ21_balanceInsertion_25, if_neg rd, sJ21_balanceInsertion_28, sJ21_balanceInsertion_29 k1]
      cases hpp : hR h xp 4 with
      | none =>
        rw [sJ21_balanceInsertion_32, sJ21_balanceInsertion_33, sJ21_balanceInsertion_34, if_neg (fun w => w rfl), sJ21_balanceInsertion_37, sJ21_balanceInsertion_38]
        exact post _ _ _ _ TCh.refl tr rfl rfl
      | some xpp =>
        have b2 := tr.up b1.1 hpp
        have k2 := k13 xpp b2.1
        have m1 := tr.mup b1.1 b1.2
        have m2 := tr.mup b2.1 b2.2
        rw [sJ21_balanceInsertion_32, sJ21_balanceInsertion_33, sJ21_balanceInsertion_34, if_pos (by simp), sJ21_balanceInsertion_39, sJ21_balanceInsertion_40, sJ21_balanceInsertion_41 k2, sJ21_balanceInsertion_44, sJ21_balanceInsertion_45, sJ21_balanceInsertion_47]
        by_cases side : hR h xpp 5 = some xp
        · rw [side, if_neg (fun w => w rfl), sJ21_balanceInsertion_50, sJ21_balanceInsertion_51 k2, sJ21_balanceInsertion_54, sJ21_balanceInsertion_55, sJ21_balanceInsertion_57]
          have tail : ∀ l4 l5 : Option am_V, Rn r 260 89 [some (vR (some rt)), some (vR (some x)), some (vR (some xp)), some (vR (some xpp)), l4, l5] [] h Q := by
            intro l4 l5
            rw [sJ21_balanceInsertion_89, sJ21_balanceInsertion_90, sJ21_balanceInsertion_91 k1, sJ21_balanceInsertion_94]
            by_cases inn : hR h xp 6 = some x
            · rw [inn, if_neg (fun w => w rfl), sJ21_balanceInsertion_97, sJ21_balanceInsertion_98, sJ21_balanceInsertion_99, sJ21_balanceInsertion_100, sJ21_balanceInsertion_101]
              refine v_rotL tr k13 b1.1 inn (fun h' rt' lo' hi' tc tr' e1 e2 e3 e4 e5 e6 => ?_)
              have k13' : ∀ y, B y → hK h' y = 13 := fun y hy => by rw [tc.kk]; exact k13 y hy
              have kq := k13' x hx
              have kp := k13' xp b1.1
              have kpp := k13' xpp b2.1
              rw [Kt_v, sJ21_balanceInsertion_104, sJ21_balanceInsertion_105, sJ21_balanceInsertion_106 kp, e1, sJ21_balanceInsertion_109, sJ21_balanceInsertion_110, sJ21_balanceInsertion_111, if_pos (by simp), sJ21_balanceInsertion_118, sJ21_balanceInsertion_119 kq, e2, hpp, sJ21_balanceInsertion_122]
              have hc2 : hR h' xpp 5 = some x := by
                have u := tr'.up (x := x) (y := xpp) hx (by show hR h' x 4 = some xpp; rw [e2]; exact hpp)
                rcases u.2 with w | w
                · exact w
                · exfalso
                  have a1 := tr'.rt u.1 w
                  have a2 := tr'.2.2.2.1 x hx
                  have a3 := tr.lf b2.1 side
                  have a4 := tr.rt b1.1 inn
                  have a5 := tr.2.2.2.1 x hx
                  have a6 := tr.2.2.2.1 xp b1.1
                  omega
              have hd2 : hR h' x 6 ≠ some xp := by
                intro w
                have a1 := tr'.rt (x := x) (y := xp) hx w
                have a2 := tr'.2.2.2.1 xp b1.1
                have a4 := tr.rt b1.1 inn
                have a5 := tr.2.2.2.1 x hx
                omega
              exact bal_rotL tr' k13' b1.1 e1 (by rw [e2]; exact hpp) hc2 hd2 (fun h2 rt2 lo2 hi2 tc2 tr2 w1 w2 => post h2 rt2 lo2 hi2 (tc.trans tc2) tr2 (w1.trans e5) (w2.trans e6)) _ _
            · rw [if_pos (fun w => inn w.symm)]
              exact bal_rotL tr k13 hx hp hpp side inn post _ _
          cases hu : hR h xpp 6 with
          | none =>
            rw [if_pos rfl]
            exact tail _ _
          | some u =>
            have bu := tr.rt b2.1 hu
            have ku := k13 u bu.1
            rw [if_neg (by simp), sJ21_balanceInsertion_60, sJ21_balanceInsertion_62 ku, sJ21_balanceInsertion_65]
            by_cases ru : hI h u 8 = 0
            · rw [ru, if_pos rfl]
              exact tail _ _
            · rw [if_neg ru, sJ21_balanceInsertion_68, sJ21_balanceInsertion_70, sJ21_balanceInsertion_71 ku rfl, sJ21_balanceInsertion_74, sJ21_balanceInsertion_75, sJ21_balanceInsertion_76 (by exact k1) rfl, sJ21_balanceInsertion_79, sJ21_balanceInsertion_80, sJ21_balanceInsertion_81 (by exact k2) rfl, sJ21_balanceInsertion_84, sJ21_balanceInsertion_85, sJ21_balanceInsertion_86]
              exact ih (putI (putI (putI h u 8 0) xp 8 0) xpp 8 1) rt xpp lo hi (by omega) tr k13 b2.1 (fun h2 rt2 lo2 hi2 tc2 tr2 w1 w2 => post h2 rt2 lo2 hi2 ((((TCh.pI bu.1).trans (TCh.pI b1.1)).trans (TCh.pI b2.1)).trans tc2) tr2 w1 w2) _ _ _ _
        · have sd : hR h xpp 6 = some xp := by
            rcases b2.2 with w | w
            · exact absurd w side
            · exact w
          rw [if_pos (fun w => side w.symm), sJ21_balanceInsertion_150, sJ21_balanceInsertion_152]
          have tail : ∀ l4 l5 : Option am_V, Rn r 260 184 [some (vR (some rt)), some (vR (some x)), some (vR (some xp)), some (vR (some xpp)), l4, l5] [] h Q := by
            intro l4 l5
            rw [sJ21_balanceInsertion_184, sJ21_balanceInsertion_185, sJ21_balanceInsertion_186 k1, sJ21_balanceInsertion_189]
            by_cases inn : hR h xp 5 = some x
            · rw [inn, if_neg (fun w => w rfl), sJ21_balanceInsertion_192, sJ21_balanceInsertion_193, sJ21_balanceInsertion_194, sJ21_balanceInsertion_195, sJ21_balanceInsertion_196]
              refine v_rotR tr k13 b1.1 inn (fun h' rt' lo' hi' tc tr' e1 e2 e3 e4 e5 e6 => ?_)
              have k13' : ∀ y, B y → hK h' y = 13 := fun y hy => by rw [tc.kk]; exact k13 y hy
              have kq := k13' x hx
              have kp := k13' xp b1.1
              have kpp := k13' xpp b2.1
              rw [Kt_v, sJ21_balanceInsertion_199, sJ21_balanceInsertion_200, sJ21_balanceInsertion_201 kp, e1, sJ21_balanceInsertion_204, sJ21_balanceInsertion_205, sJ21_balanceInsertion_206, if_pos (by simp), sJ21_balanceInsertion_213, sJ21_balanceInsertion_214 kq, e2, hpp, sJ21_balanceInsertion_217]
              have hc2 : hR h' xpp 6 = some x := by
                have u := tr'.up (x := x) (y := xpp) hx (by show hR h' x 4 = some xpp; rw [e2]; exact hpp)
                rcases u.2 with w | w
                · exfalso
                  have a1 := tr'.lf u.1 w
                  have a2 := tr'.2.2.2.1 x hx
                  have a3 := tr.rt b2.1 sd
                  have a4 := tr.lf b1.1 inn
                  have a5 := tr.2.2.2.1 x hx
                  have a6 := tr.2.2.2.1 xp b1.1
                  omega
                · exact w
              have hd2 : hR h' x 5 ≠ some xp := by
                intro w
                have a1 := tr'.lf (x := x) (y := xp) hx w
                have a2 := tr'.2.2.2.1 xp b1.1
                have a4 := tr.lf b1.1 inn
                have a5 := tr.2.2.2.1 x hx
                omega
              exact bal_rotR tr' k13' b1.1 e1 (by rw [e2]; exact hpp) hc2 hd2 (fun h2 rt2 lo2 hi2 tc2 tr2 w1 w2 => post h2 rt2 lo2 hi2 (tc.trans tc2) tr2 (w1.trans e5) (w2.trans e6)) _ _
            · rw [if_pos (fun w => inn w.symm)]
              exact bal_rotR tr k13 hx hp hpp sd inn post _ _
          cases hu : hR h xpp 5 with
          | none =>
            rw [if_pos rfl]
            exact tail _ _
          | some u =>
            have bu := tr.lf b2.1 hu
            have ku := k13 u bu.1
            rw [if_neg (by simp), sJ21_balanceInsertion_155, sJ21_balanceInsertion_157 ku, sJ21_balanceInsertion_160]
            by_cases ru : hI h u 8 = 0
            · rw [ru, if_pos rfl]
              exact tail _ _
            · rw [if_neg ru, sJ21_balanceInsertion_163, sJ21_balanceInsertion_165, sJ21_balanceInsertion_166 ku rfl, sJ21_balanceInsertion_169, sJ21_balanceInsertion_170, sJ21_balanceInsertion_171 (by exact k1) rfl, sJ21_balanceInsertion_174, sJ21_balanceInsertion_175, sJ21_balanceInsertion_176 (by exact k2) rfl, sJ21_balanceInsertion_179, sJ21_balanceInsertion_180, sJ21_balanceInsertion_181]
              exact ih (putI (putI (putI h u 8 0) xp 8 0) xpp 8 1) rt xpp lo hi (by omega) tr k13 b2.1 (fun h2 rt2 lo2 hi2 tc2 tr2 w1 w2 => post h2 rt2 lo2 hi2 ((((TCh.pI bu.1).trans (TCh.pI b1.1)).trans (TCh.pI b2.1)).trans tc2) tr2 w1 w2) _ _ _ _
theorem v_balance {h : am_H} {rt x : Nat} {lo hi : Nat → Int} (tr : trH h K B rt lo hi) (k13 : ∀ x, B x → hK h x = 13) (hx : B x) (post : ∀ h' rt' lo' hi', TCh B h h' → trH h' K B rt' lo' hi' → lo' rt' = lo rt → hi' rt' = hi rt → Q (Sum.inl (some (vR (some rt')))) h') : Cl r 260 [vR (some rt), vR (some x)] h Q := by
  rw [eJ21_balanceInsertion, sJ21_balanceInsertion_0, sJ21_balanceInsertion_1, sJ21_balanceInsertion_2 (k13 x hx) rfl]
  exact v_bal ((tM rt lo hi x).toNat + 1) (putI h x 8 1) rt x lo hi (by omega) tr k13 hx (fun h' rt' lo' hi' tc tr' w1 w2 => post h' rt' lo' hi' ((TCh.pI hx).trans tc) tr' w1 w2) _ _ _ _
end BAL
