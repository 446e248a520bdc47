/-! JDK: maps, 21: put *-/
section MPT
variable {g g0 : Nat → Nat} {h h0 : am_H} {v v0 : vT} {r m t n ix a b : Nat} {NS : List Nat} {Q : am_O → am_H → Prop} {T : List Int32} {z : Nat}
theorem STR_of (c : CRg g0 h0 v0) (hm : hK v0.1 m = 6) (ch : Chg g0 g h0 h m) : STR h v0 := by
  intro k hk
  have lm : m < hN h0 := by rw [← c.1]; exact hK_lt hm (by decide)
  have lk : k < hN h0 := by rw [← c.1]; exact hK_lt (c := hK v0.1 k) rfl (by omega)
  have vk := c.2.2.2.2 k lk
  have gk := (vk.1 (by omega)).1
  have vm := (c.2.2.2.2 m lm).1 (by rw [hm]; decide)
  have km : hK h0 m = 6 := by rw [vm.2]; exact hm
  have ne : k ≠ m := fun e => by rw [e, hm] at hk; omega
  have hs : ¬ shr (hK h0 m) := by rw [km]; unfold shr; omega
  obtain ⟨⟨b, b1, b2, b3, b4, b5⟩, t2, t3, t4, t5⟩ := isTx_l ch hs ne gk lk (vk.2.2.2.2.1 hk)
  have kk : hK h k = hK v0.1 k := by rw [(ch.2.2 k lk).2.1]; exact (vk.1 (by omega)).2
  exact ⟨b, ⟨by omega, by omega, b1, by omega, b4, b5, t2, t4⟩, by omega⟩
theorem pv_main {l7 l9 l10 l11 l12 : Option am_V} (c : CRg g0 h0 v0) (hm : hK v0.1 m = 6) (ch : Chg g0 g h0 h m) (os : OS g h v0 m t n NS) (sz : hI h m 4 = iI NS.length) (l15 : NS.length ≤ 15) (ta : vTx v0 a = T) (ka : hK v0.1 a = 10 ∨ (hK v0.1 a = 11 ∧ T.length < 8)) (la : a < hN h0) (kT : okK T) (new : vMp v0 m T = none)
    (post : ∀ h' n' s', CR h' (vsM (vbm v0 n' s') m T z) → hN h ≤ n' → n' ≤ hN h + 18 → hS h ≤ s' → s' ≤ hS h + 250 → Q (Sum.inl (some (vR none))) h') :
    Rn r 165 29 [some (vR (some m)), some (vI (sprd (hashS T))), some (vR (some a)), some (vR (some z)), some (vI 0), some (vI 1), some (vR (some t)), l7, some (vI (iI n)), l9, l10, l11, l12] [] h Q := by
  have st := STR_of c hm ch
  have lm0 : m < hN h0 := by rw [← c.1]; exact hK_lt hm (by decide)
  have vm := (c.2.2.2.2 m lm0).1 (by rw [hm]; decide)
  have km : hK h m = 6 := by rw [(ch.2.2 m lm0).2.1, vm.2]; exact hm
  have gm : g m = m := by rw [(ch.2.2 m lm0).1]; exact vm.1
  have lm : m < hN h := Nat.lt_of_lt_of_le lm0 ch.1
  have la' : a < hN h := Nat.lt_of_lt_of_le la ch.1
  have ku : hE h 33 = hE h 33 := rfl
  obtain ⟨bb, S, S44⟩ := st a (by omega)
  rw [ta] at S
  have os' := os
  obtain ⟨s1, s2, s3, s4, s5, s6, s7, ⟨u1, u2, u3, u4, u5⟩⟩ := os
  have n64 : 16 ≤ n ∧ n ≤ 64 := by rcases s6 with q | q | q <;> omega
  have bi := bIx_lt n s6 (sprd (hashS T))
  have c2 : iI n - (1 : Int32) = iI (n - 1) := by rw [i_1, iI_sub]
  have nd : ∀ x, x ∈ NS → ndF h v0 x := fun x hx => ndF_of st (s2 x hx)
  have old : ∀ x, x ∈ NS → ndT h v0 x ≠ T := fun x hx e => by
    obtain ⟨_, _, _, k, w, n4', _, _, _, _, _, n10⟩ := s2 x hx
    have : ndT h v0 x = vTx v0 k := by unfold ndT; rw [n4']
    rw [← this, e, new] at n10
    cases n10
  have ltn : ∀ x, x ∈ NS → x < hN h := fun x hx => (s2 x hx).2.1
  have xt : ∀ x, x ∈ NS → x ≠ t := fun x hx e => by have := (s2 x hx).2.2.1; rw [e, u1] at this; omega
  have xm : ∀ x, x ∈ NS → x ≠ m := fun x hx e => by have := (s2 x hx).2.2.1; rw [e, km] at this; omega
  have tm : t ≠ m := fun e => by rw [e, km] at u1; omega
  have lenA : (NS ++ [hN h]).length = NS.length + 1 := by simp
  have k8 : T.length = 8 → hK h bb = 44 := fun w => by omega
  rw [sJ7_putVal_29, sJ7_putVal_31, sJ7_putVal_33, sJ7_putVal_34, c2, sJ7_putVal_35, sJ7_putVal_36, bi.2, sJ7_putVal_37, sJ7_putVal_38, sJ7_putVal_40 (by omega) (by omega) (by rw [u4]; exact bd_i bi.1 (by omega)), nn_i (by omega), sJ7_putVal_41, sJ7_putVal_42, sJ7_putVal_44]
  generalize hix : bIx n (sprd (hashS T)) = ix at *
  -- the heap with the node alone
  have nK : ∀ b, b < hN h → hK (ndNew h 12 4 (sprd (hashS T)) (some a) (some z) none) b = hK h b ∧ hL (ndNew h 12 4 (sprd (hashS T)) (some a) (some z) none) b = hL h b := fun b hb => ⟨hK_nd (by omega), hL_nd (by omega)⟩
  have nI' : ∀ b, b < hN h → ∀ k, hI (ndNew h 12 4 (sprd (hashS T)) (some a) (some z) none) b k = hI h b k ∧ hJ (ndNew h 12 4 (sprd (hashS T)) (some a) (some z) none) b k = hJ h b k ∧ hR (ndNew h 12 4 (sprd (hashS T)) (some a) (some z) none) b k = hR h b k := fun b hb k => ⟨hI_nd (by omega), hJ_nd (by omega), hR_nd (by omega)⟩
  have n1 : hK (ndNew h 12 4 (sprd (hashS T)) (some a) (some z) none) (hN h) = 12 := hK_ndn
  have n2 : hI (ndNew h 12 4 (sprd (hashS T)) (some a) (some z) none) (hN h) 0 = sprd (hashS T) := hI_ndn
  have n3 : ∀ k, hR (ndNew h 12 4 (sprd (hashS T)) (some a) (some z) none) (hN h) k = if k = 3 then none else if k = 2 then some z else if k = 1 then some a else none := fun k => hR_ndn
  have nN : hN (ndNew h 12 4 (sprd (hashS T)) (some a) (some z) none) = hN h + 1 := rfl
  have nS : hS (ndNew h 12 4 (sprd (hashS T)) (some a) (some z) none) = hS h + 4 := rfl
  have nE : ∀ k, hE (ndNew h 12 4 (sprd (hashS T)) (some a) (some z) none) k = hE h k := fun _ => rfl
  have nNew : ∀ {Q : am_O → am_H → Prop}, Cl r 207 [vR (some m), vI (sprd (hashS T)), vR (some a), vR (some z), vR none] h Q ↔ Q (Sum.inl (some (vR (some (hN h))))) (ndNew h 12 4 (sprd (hashS T)) (some a) (some z) none) := nd_new12 km
  generalize ndNew h 12 4 (sprd (hashS T)) (some a) (some z) none = d at *
  rcases u5 ix bi.1 with ⟨xs, cx, nx, kx, mx⟩ | ⟨e64, rt, lo, hi, o1, tr, nb, nxt, w1, w2⟩
  · cases xs with
    | nil =>
      have e0 : hR h t ix = none := cx
      rw [e0, if_neg (fun w => w rfl), sJ7_putVal_47, sJ7_putVal_49, sJ7_putVal_51, sJ7_putVal_52, sJ7_putVal_53, sJ7_putVal_54, sJ7_putVal_55, sJ7_putVal_56 km, nNew, Kt_v, sJ7_putVal_59 (Or.inr ⟨by rw [(nK t u3).1]; exact u1, by omega, by omega⟩) (by rw [(nK t u3).2, u4]; exact bd_i bi.1 (by omega)), nn_i (by omega), sJ7_putVal_60]
      have tN : t ≠ hN h := by omega
      have ms := MS_ins (h' := putR d t ix (some (hN h))) (z := z) os' gm km lm ta ka la' kT new hix nN (fun b hb => nK b hb) (fun k => ⟨(nI' m lm k).1, by rw [hR_putR, if_neg (am_ne (Ne.symm tm))]; exact (nI' m lm k).2.2⟩) (fun x hx => ⟨(nI' x (ltn x hx) 0).1, by rw [hR_putR, if_neg (am_ne (xt x hx))]; exact (nI' x (ltn x hx) 1).2.2, by rw [hR_putR, if_neg (am_ne (xt x hx))]; exact (nI' x (ltn x hx) 2).2.2⟩) (fun x hx _ k => ⟨(nI' x (ltn x hx) k).1, by rw [hR_putR, if_neg (am_ne (xt x hx))]; exact (nI' x (ltn x hx) k).2.2⟩) (fun k hk => by rw [hR_putR, if_neg (fun w => hk w.2)]; exact (nI' t u3 k).2.2) (Or.inl n1) n2 (by rw [hR_putR, if_neg (am_ne (Ne.symm tN)), n3]; rfl) (by rw [hR_putR, if_neg (am_ne (Ne.symm tN)), n3]; rfl) ?_
      · refine pv_fin c hm (ch.trans (g2 := gN g (hN h) m) (h2 := putR d t ix (some (hN h))) ?_) ms ?_ (by omega) (by omega) (fun h' n' s' q1 q2 q3 q4 q5 => ?_)
        · refine ⟨by show hN h ≤ hN d; omega, nE, fun b hb => ⟨gN_ne (by omega), (nK b hb).1, (nK b hb).2, fun q k => ⟨(nI' b hb k).1, (nI' b hb k).2.1, ?_⟩⟩⟩
          rw [hR_putR, if_neg (fun w => q (by rw [w.1]; exact u2))]
          exact (nI' b hb k).2.2
        · rw [lenA]
          show hI d m 4 = _
          rw [(nI' m lm 4).1, sz]
          congr 1
          omega
        · have e1 : hN (putR d t ix (some (hN h))) = hN h + 1 := nN
          have e2 : hS (putR d t ix (some (hN h))) = hS h + 4 := nS
          exact post h' n' s' q1 (by omega) (by omega) (by omega) (by omega)
      · left
        rw [hR_putR, if_pos ⟨rfl, rfl⟩]
        refine ⟨[hN h], ⟨rfl, ?_⟩, by simp, fun x hx => by rw [List.mem_singleton.mp hx]; exact n1, fun x => ?_⟩
        · rw [hR_putR, if_neg (am_ne (Ne.symm tN)), n3]; rfl
        · rw [List.mem_singleton, List.mem_append, List.mem_singleton]
          constructor
          · intro w
            rw [w]
            exact ⟨Or.inr rfl, by rw [hI_putR, n2]; exact hix⟩
          · rintro ⟨w | w, w2⟩
            · exfalso
              rw [hI_putR, (nI' x (ltn x w) 0).1] at w2
              have := (mx x).mpr ⟨w, w2⟩
              cases this
            · exact w
    | cons y rs =>
      have e0 : hR h t ix = some y := cx.1
      have ym := (mx y).mp (List.mem_cons_self ..)
      have ky := kx y (List.mem_cons_self ..)
      rw [e0, if_pos (by simp)]
      refine (pv_ne1 S (nd y ym.1) (old y ym.1) True (fun l11' => iff_true_intro ?_)).mpr trivial
      rw [sJ7_putVal_104, sJ7_putVal_106_f (by rw [ky]; decide) (by rw [ky]; decide), sJ7_putVal_109, if_pos rfl, sJ7_putVal_131, sJ7_putVal_132]
      have lrs : rs.length < 900 := by
        have p := (List.perm_ext_iff_of_nodup nx (List.Pairwise.filter (fun x => decide (bIx n (hI h x 0) = ix)) s1)).mpr (fun a => by rw [mx a, List.mem_filter, decide_eq_true_iff])
        have h1 := p.length_eq
        have h2 := List.length_filter_le (fun x => decide (bIx n (hI h x 0) = ix)) NS
        rw [List.length_cons] at h1
        omega
      refine pv_walk (v := v0) (W := fun w c => w ∈ (y :: rs).getLast? ∧ c = rs.length) S (fun w c' l11'' hw => ?_) rs y 0 _ _ (by omega) (by rw [e0] at cx; exact cx) (fun x hx => ⟨nd x ((mx x).mp hx).1, old x ((mx x).mp hx).1⟩) (fun w hw => ⟨hw, by omega⟩)
      obtain ⟨hw1, hw2⟩ := hw
      obtain ⟨l', el⟩ := last_app hw1
      have wm : w ∈ y :: rs := by rw [el]; exact List.mem_append_right _ (List.mem_singleton.mpr rfl)
      have wN := (mx w).mp wm
      have kw := kx w wm
      have lw := ltn w wN.1
      have wh : w ≠ hN h := by omega
      rw [sJ7_putVal_145, sJ7_putVal_147, sJ7_putVal_148, sJ7_putVal_149, sJ7_putVal_150, sJ7_putVal_151, sJ7_putVal_152 km, nNew, Kt_v, sJ7_putVal_155 (by rw [(nK w lw).1]; omega) (by rw [(nK w lw).1]; omega), sJ7_putVal_158, sJ7_putVal_160, sJ7_putVal_162]
      have wfree : ∀ x, x ∈ NS → bIx n (hI h x 0) ≠ ix → x ≠ w := fun x hx q e => q (by rw [e]; exact wN.2)
      have lb : isLB (putR d w 3 (some (hN h))) n (hR (putR d w 3 (some (hN h))) t ix) (NS ++ [hN h]) ix := by
        rw [hR_putR, if_neg (am_ne (Ne.symm (xt w wN.1))), (nI' t u3 ix).2.2]
        refine ⟨y :: rs ++ [hN h], ?_, ?_, fun x hx => ?_, fun x => ?_⟩
        · rw [el] at cx nx ⊢
          refine chn_app cx (fun x hx => ?_) (by rw [hR_putR, if_pos ⟨rfl, rfl⟩]) (by rw [hR_putR, if_neg (am_ne (Ne.symm wh)), n3]; rfl)
          have hxN := (mx x).mp (by rw [el]; exact List.mem_append_left _ hx)
          have : x ≠ w := fun e => by
            rw [e] at hx
            exact (List.nodup_append.mp nx).2.2 w hx w (List.mem_singleton.mpr rfl) rfl
          rw [hR_putR, if_neg (am_ne this)]
          exact (nI' x (ltn x hxN.1) 3).2.2
        · refine List.nodup_append.mpr ⟨nx, by simp, fun x hx u hu e => ?_⟩
          have h1 := ltn x ((mx x).mp hx).1
          have h2 := List.mem_singleton.mp hu
          omega
        · rcases List.mem_append.mp hx with q | q
          · rw [hK_putR, (nK x (ltn x ((mx x).mp q).1)).1]
            exact kx x q
          · rw [List.mem_singleton.mp q]; exact n1
        · rw [List.mem_append, List.mem_append, List.mem_singleton]
          constructor
          · rintro (q | q)
            · have := (mx x).mp q
              exact ⟨Or.inl this.1, by rw [hI_putR, (nI' x (ltn x this.1) 0).1]; exact this.2⟩
            · rw [q]; exact ⟨Or.inr rfl, by rw [hI_putR, n2]; exact hix⟩
          · rintro ⟨q | q, q2⟩
            · rw [hI_putR, (nI' x (ltn x q) 0).1] at q2
              exact Or.inl ((mx x).mpr ⟨q, q2⟩)
            · exact Or.inr q
      have ms := MS_ins (h' := putR d w 3 (some (hN h))) (z := z) os' gm km lm ta ka la' kT new hix nN (fun b hb => nK b hb) (fun k => ⟨(nI' m lm k).1, by rw [hR_putR, if_neg (am_ne (Ne.symm (xm w wN.1)))]; exact (nI' m lm k).2.2⟩) (fun x hx => ⟨(nI' x (ltn x hx) 0).1, by rw [hR_putR, if_neg (fun e => absurd e.2 (by decide))]; exact (nI' x (ltn x hx) 1).2.2, by rw [hR_putR, if_neg (fun e => absurd e.2 (by decide))]; exact (nI' x (ltn x hx) 2).2.2⟩) (fun x hx q k => ⟨(nI' x (ltn x hx) k).1, by rw [hR_putR, if_neg (am_ne (wfree x hx q))]; exact (nI' x (ltn x hx) k).2.2⟩) (fun k hk => by rw [hR_putR, if_neg (am_ne (Ne.symm (xt w wN.1)))]; exact (nI' t u3 k).2.2) (Or.inl n1) n2 (by rw [hR_putR, if_neg (am_ne (Ne.symm wh)), n3]; rfl) (by rw [hR_putR, if_neg (am_ne (Ne.symm wh)), n3]; rfl) (Or.inl lb)
      have ch2 : Chg g0 (gN g (hN h) m) h0 (putR d w 3 (some (hN h))) m := by
        refine ch.trans ⟨by show hN h ≤ hN d; omega, nE, fun b hb => ⟨gN_ne (by omega), (nK b hb).1, (nK b hb).2, fun q k => ⟨(nI' b hb k).1, (nI' b hb k).2.1, ?_⟩⟩⟩
        rw [hR_putR, if_neg (fun e => q (by rw [e.1]; exact (s2 w wN.1).1))]
        exact (nI' b hb k).2.2
      have sz2 : hI (putR d w 3 (some (hN h))) m 4 = iI ((NS ++ [hN h]).length - 1) := by
        rw [lenA]
        show hI d m 4 = _
        rw [(nI' m lm 4).1, sz]
        congr 1
        omega
      have e1 : hN (putR d w 3 (some (hN h))) = hN h + 1 := nN
      have e2 : hS (putR d w 3 (some (hN h))) = hS h + 4 := nS
      by_cases p7 : rs.length < 7
      · rw [if_pos (by rw [i_7, iI_lt (by omega) (by omega) (by omega) (by omega)]; omega), sJ7_putVal_222, sJ7_putVal_224, if_pos rfl]
        refine pv_fin c hm ch2 ms sz2 (by omega) (by omega) (fun h' n' s' q1 q2 q3 q4 q5 => ?_)
        exact post h' n' s' q1 (by omega) (by omega) (by omega) (by omega)
      · have km2 : hK (putR d w 3 (some (hN h))) m = 6 := by rw [hK_putR, (nK m lm).1]; exact km
        have gm2 : gN g (hN h) m m = m := by rw [gN_ne (by omega)]; exact gm
        have lm2 : m < hN (putR d w 3 (some (hN h))) := by omega
        rw [if_neg (by rw [i_7, iI_lt (by omega) (by omega) (by omega) (by omega)]; omega), sJ7_putVal_165, sJ7_putVal_166, sJ7_putVal_168, sJ7_putVal_169 km2]
        by_cases p64 : n = 64
        · subst p64
          obtain ⟨ys, y1, y2, y3, y4⟩ := lb
          have ylen : 2 ≤ ys.length := by
            have p := (List.perm_ext_iff_of_nodup y2 (show (y :: rs ++ [hN h]).Nodup from ?_)).mpr (fun x => ?_)
            · have := p.length_eq
              rw [List.length_append, List.length_cons] at this
              omega
            · refine List.nodup_append.mpr ⟨nx, by simp, fun x hx u hu e => ?_⟩
              have h1 := ltn x ((mx x).mp hx).1
              have h2 := List.mem_singleton.mp hu
              omega
            · rw [y4 x, List.mem_append, List.mem_append, List.mem_singleton]
              constructor
              · rintro ⟨q | q, q2⟩
                · rw [hI_putR, (nI' x (ltn x q) 0).1] at q2
                  exact Or.inl ((mx x).mpr ⟨q, q2⟩)
                · exact Or.inr q
              · rintro (q | q)
                · have := (mx x).mp q
                  exact ⟨Or.inl this.1, by rw [hI_putR, (nI' x (ltn x this.1) 0).1]; exact this.2⟩
                · rw [q]; exact ⟨Or.inr rfl, by rw [hI_putR, n2]; exact hix⟩
          have ku2 : hE (putR d w 3 (some (hN h))) 33 = hE (putR d w 3 (some (hN h))) 33 := rfl
          refine v_treeBin (ix := ix) (xs := ys) ms (fun k hk => STR_of (v0 := v0) c hm ch2 k hk) ku2 km2 gm2 lm2 hix y1 y2 y3 y4 ylen (by omega) (fun h' g' NS' c3 m3 e3 e4 e5 e6 e7 => ?_)
          rw [Kt_0, sJ7_putVal_172, sJ7_putVal_222, sJ7_putVal_224, if_pos rfl]
          refine pv_fin c hm (ch2.trans c3) m3 (by rw [e7, e3]; exact sz2) (by omega) (by omega) (fun h'' n' s' q1 q2 q3 q4 q5 => ?_)
          have c31 := c3.1
          exact post h'' n' s' q1 (by omega) (by omega) (by omega) (by omega)
        · have hn2 : n = 16 ∨ n = 32 := by omega
          have kt2 : hK (putR d w 3 (some (hN h))) t = 48 := by rw [hK_putR, (nK t u3).1]; exact u1
          have lt2 : hL (putR d w 3 (some (hN h))) t = n := by rw [hL_putR, (nK t u3).2]; exact u4
          have i64 : (64 : Int32) = iI 64 := rfl
          rw [eJ7_treeifyBin, sJ7_treeifyBin_0, sJ7_treeifyBin_1, if_neg (by simp), sJ7_treeifyBin_4, sJ7_treeifyBin_5 (by omega) (by omega), lt2, iI_nI, sJ7_treeifyBin_6, sJ7_treeifyBin_7, sJ7_treeifyBin_8, sJ7_treeifyBin_10, if_neg (by rw [i64, iI_le (by omega) (by omega) (by omega) (by omega)]; omega), sJ7_treeifyBin_13, sJ7_treeifyBin_14 km2]
          refine v_resize2 hn2 ms km2 gm2 lm2 (fun h' c3 m3 e3 e4 e5 => ?_)
          rw [Kt_v, sJ7_treeifyBin_17, sJ7_treeifyBin_18, sJ7_treeifyBin_109, Kt_0, sJ7_putVal_172, sJ7_putVal_222, sJ7_putVal_224, if_pos rfl]
          refine pv_fin c hm (ch2.trans c3) m3 (by rw [e5 4 (by decide)]; exact sz2) (by omega) (by omega) (fun h'' n' s' q1 q2 q3 q4 q5 => ?_)
          have c31 := c3.1
          exact post h'' n' s' q1 (by omega) (by omega) (by omega) (by omega)
  · subst e64
    have k13 := (tr.2.2.2.1 rt tr.1).1
    have kr := keyN_rng (sprd (hashS T)) T
    rw [o1, if_pos (by simp)]
    refine (pv_ne1 S (nd rt tr.1.1) (old rt tr.1.1) True (fun l11' => iff_true_intro ?_)).mpr trivial
    rw [sJ7_putVal_104, sJ7_putVal_106 (by rw [k13]; decide), sJ7_putVal_109, if_neg (by decide), sJ7_putVal_112, sJ7_putVal_114 (by rw [k13]; decide), sJ7_putVal_117, sJ7_putVal_118, sJ7_putVal_120, sJ7_putVal_121, sJ7_putVal_122, sJ7_putVal_123 k13]
    refine v_putTree tr (fun x hx => nd x hx.1) (fun x hx => ltn x hx.1) S kT ta (fun x hx => old x hx.1) ku k8 km u1 u4 u3 (fun x hx => hx.2) hix o1 nb nxt (by omega) (by omega) (fun h' rt' lo' hi' bc e1 e2 e3 e4 e5 e6 tr' nb' ft nx' e7 e8 => ?_)
    rw [Kt_v, sJ7_putVal_126, sJ7_putVal_128, sJ7_putVal_222, sJ7_putVal_224, if_pos rfl]
    have inB : ∀ x, x ∈ NS → bIx 64 (hI h x 0) ≠ ix → ¬ ((x ∈ NS ∧ bIx 64 (hI h x 0) = ix) ∨ x = hN h) := fun x hx q w => by
      rcases w with w | w
      · exact q w.2
      · have := ltn x hx; omega
    have nbm : ¬ ((m ∈ NS ∧ bIx 64 (hI h m 0) = ix) ∨ m = hN h) := fun w => by
      rcases w with w | w
      · exact xm m w.1 rfl
      · omega
    have nbt : ¬ ((t ∈ NS ∧ bIx 64 (hI h t 0) = ix) ∨ t = hN h) := fun w => by
      rcases w with w | w
      · exact xt t w.1 rfl
      · omega
    have fx : ∀ x, x ∈ NS → hI h' x 0 = hI h x 0 ∧ hR h' x 1 = hR h x 1 ∧ hR h' x 2 = hR h x 2 := fun x hx => by
      obtain ⟨y1, y2, y3, y4, y5⟩ := bc.2.2 x (ltn x hx)
      exact ⟨y4 0 (fun w => absurd w.2 (by decide)), y5 1 (fun w => xt x hx w.1) (fun w => absurd w.2.1 (by decide)), y5 2 (fun w => xt x hx w.1) (fun w => absurd w.2.1 (by decide))⟩
    have pd : (fun x => x ∈ NS ++ [hN h] ∧ bIx 64 (hI h' x 0) = ix) = fun x => (x ∈ NS ∧ bIx 64 (hI h x 0) = ix) ∨ x = hN h := by
      funext x
      apply propext
      rw [List.mem_append, List.mem_singleton]
      constructor
      · rintro ⟨w | w, w2⟩
        · rw [(fx x w).1] at w2
          exact Or.inl ⟨w, w2⟩
        · exact Or.inr w
      · rintro (w | w)
        · exact ⟨Or.inl w.1, by rw [(fx x w.1).1]; exact w.2⟩
        · rw [w]; exact ⟨Or.inr rfl, by rw [e4]; exact hix⟩
    have ms := MS_ins (h' := h') (z := z) os' gm km lm ta ka la' kT new hix e1 (fun b hb => ⟨(bc.2.2 b hb).1, (bc.2.2 b hb).2.1⟩) (fun k => ⟨(bc.2.2 m lm).2.2.2.1 k (fun w => nbm w.1), (bc.2.2 m lm).2.2.2.2 k (fun w => tm w.1.symm) (fun w => nbm w.1)⟩) fx (fun x hx q k => ⟨(bc.2.2 x (ltn x hx)).2.2.2.1 k (fun w => inB x hx q w.1), (bc.2.2 x (ltn x hx)).2.2.2.2 k (fun w => xt x hx w.1) (fun w => inB x hx q w.1)⟩) (fun k hk => (bc.2.2 t u3).2.2.2.2 k (fun w => hk w.2) (fun w => nbt w.1)) (Or.inr e3) e4 e5 e6 (Or.inr ⟨rfl, rt', lo', hi', ft, by rw [pd]; exact isTr_l (v := v0) (fun x _ => ⟨rfl, fun _ => ⟨rfl, rfl⟩, rfl⟩) tr', by rw [pd]; exact nb', nx', by omega, by omega⟩)
    refine pv_fin c hm (ch.trans (g2 := gN g (hN h) m) (h2 := h') ?_) ms ?_ (by omega) (by omega) (fun h'' n' s' q1 q2 q3 q4 q5 => ?_)
    · refine ⟨bc.1, bc.2.1, fun b hb => ?_⟩
      obtain ⟨y1, y2, y3, y4, y5⟩ := bc.2.2 b hb
      refine ⟨gN_ne (by omega), y1, y2, fun q k => ?_⟩
      have nbb : ¬ ((b ∈ NS ∧ bIx 64 (hI h b 0) = ix) ∨ b = hN h) := fun w => by
        rcases w with w | w
        · exact q (s2 b w.1).1
        · omega
      exact ⟨y4 k (fun w => nbb w.1), y3 k, y5 k (fun w => q (by rw [w.1]; exact u2)) (fun w => nbb w.1)⟩
    · rw [lenA, (bc.2.2 m lm).2.2.2.1 4 (fun w => nbm w.1), sz]
      congr 1
      omega
    · exact post h'' n' s' q1 (by omega) (by omega) (by omega) (by omega)
end MPT
