/-! JDK: maps, 22: put and new maps as changes of a view *-/
section MQL
variable {g g0 : Nat → Nat} {h h0 : am_H} {v v0 : vT} {r m t n ix a b : Nat} {NS : List Nat} {Q : am_O → am_H → Prop} {T : List Int32} {z : Nat}
theorem len_sub {α : Type} : ∀ (l L : List α), l.Nodup → (∀ x, x ∈ l → x ∈ L) → l.length ≤ L.length := by
  intro l
  induction l with
  | nil => intro L _ _; exact Nat.zero_le _
  | cons x l ih =>
    intro L nd sub
    obtain ⟨A, B, e⟩ := List.append_of_mem (sub x (List.mem_cons_self ..))
    have nx := List.nodup_cons.mp nd
    have := ih (A ++ B) nx.2 (fun y hy => by
      have h1 := sub y (List.mem_cons_of_mem _ hy)
      rw [e] at h1
      rcases List.mem_append.mp h1 with w | w
      · exact List.mem_append_left _ w
      · rcases List.mem_cons.mp w with w | w
        · exact absurd (by rw [← w]; exact hy) nx.1
        · exact List.mem_append_right _ w)
    rw [e]
    simp only [List.length_cons, List.length_append] at this ⊢
    omega
theorem nodup_map {α β : Type} (f : α → β) : ∀ (l : List α), l.Nodup → (∀ x y, x ∈ l → y ∈ l → f x = f y → x = y) → (l.map f).Nodup := by
  intro l
  induction l with
  | nil => intro _ _; exact List.nodup_nil
  | cons x l ih =>
    intro nd inj
    have nx := List.nodup_cons.mp nd
    refine List.nodup_cons.mpr ⟨fun w => ?_, ih nx.2 (fun a b ha hb => inj a b (List.mem_cons_of_mem _ ha) (List.mem_cons_of_mem _ hb))⟩
    obtain ⟨y, y1, y2⟩ := List.mem_map.mp w
    have := inj y x (List.mem_cons_of_mem _ y1) (List.mem_cons_self ..) y2
    exact nx.1 (by rw [← this]; exact y1)
theorem v_mput (c : CR h v) (hm : hK v.1 m = 6) (ha : hK v.1 a = 10 ∨ (hK v.1 a = 11 ∧ (vTx v a).length < 8)) (kT : okK (vTx v a)) (new : vMp v m (vTx v a) = none) (sm : ∃ L : List (List Int32), L.length ≤ 15 ∧ ∀ s z, vMp v m s = some z → s ∈ L)
    (q : ∀ h' n' s', CR h' (vsM (vbm v n' s') m (vTx v a) z) → hN v.1 ≤ n' → n' ≤ hN v.1 + 20 → hS v.1 ≤ s' → s' ≤ hS v.1 + 300 → Q (Sum.inl (some (vR none))) h') : Cl r 121 [vR (some m), vR (some a), vR (some z)] h Q := by
  have km := c.kk hm (by decide)
  rw [eJ7_put, sJ7_put_0, sJ7_put_1, sJ7_put_2]
  refine v_hashK c (by omega) (fun h1 c1 f => ?_)
  have hn1 := c1.hn
  have hs1 := c1.hs
  have la := c1.lt (a := a) (by omega)
  obtain ⟨g0, d, ⟨NS, t1, t2, t3, t4, t5, t6, t7⟩, km1, gm1, lm1, ku1⟩ := c1.mp hm
  have l15 : NS.length ≤ 15 := by
    obtain ⟨L, L1, L2⟩ := sm
    have h1 := len_sub (NS.map (ndT h1 v)) L (nodup_map _ NS t1 (fun x y hx hy e => t5 x y hx hy e)) (fun s hs => by
      obtain ⟨x, x1, x2⟩ := List.mem_map.mp hs
      obtain ⟨_, _, _, k, w, n4, _, _, _, _, _, n10⟩ := t4 x x1
      have : ndT h1 v x = vTx v k := by unfold ndT; rw [n4]
      refine L2 s w ?_
      rw [← x2, this]
      exact n10)
    rw [List.length_map] at h1
    omega
  rw [Kt_v, sJ7_put_5, sJ7_put_6, sJ7_put_7, sJ7_put_8, sJ7_put_9 km1, eJ7_putVal, sJ7_putVal_0, sJ7_putVal_1 km1]
  rcases t7 with ⟨u1, u2, u3⟩ | ⟨t, n, u1, u2, u3, u4, u5⟩
  · have N1 : hN (putI h1 m 6 12) = hN h1 := rfl
    rw [u1, sJ7_putVal_4, sJ7_putVal_5, sJ7_putVal_7, if_pos rfl, sJ7_putVal_19, sJ7_putVal_20 km1, v_resize0 km1 lm1 u1 u3, Kt_v, sJ7_putVal_23, sJ7_putVal_24]
    have k48 : hK (putR (newC (putI h1 m 6 12) 48 16) m 2 (some (hN h1))) (hN h1) = 48 := by rw [hK_putR, hK_newC, N1, if_pos rfl]
    have l16 : hL (putR (newC (putI h1 m 6 12) 48 16) m 2 (some (hN h1))) (hN h1) = 16 := by rw [hL_putR, hL_newC, N1, if_pos rfl]
    rw [sJ7_putVal_26 (by omega) (by omega), l16, iI_nI, sJ7_putVal_27]
    subst u2
    have os : OS (gN g0 (hN h1) m) (putR (newC (putI h1 m 6 12) 48 16) m 2 (some (hN h1))) v m (hN h1) 16 [] := by
      refine ⟨List.nodup_nil, fun x hx => (by cases hx), fun x y hx => (by cases hx), fun s z e => ?_, by rw [hR_putR, if_pos ⟨rfl, rfl⟩], Or.inl rfl, ?_, ⟨k48, gN_eq, by show hN h1 < hN h1 + 1; omega, l16, fun i hi => Or.inl ⟨[], ?_, List.nodup_nil, fun x hx => (by cases hx), fun x => ⟨fun w => (by cases w), fun w => (by cases w.1)⟩⟩⟩⟩
      · obtain ⟨x, x1, _⟩ := t6 s z e
        cases x1
      · rw [hI_putR, hI_newC, N1, if_neg (by omega), hI_putI, if_pos ⟨rfl, rfl⟩]
        rfl
      · show hR _ (hN h1) i = none
        rw [hR_putR, if_neg (fun w => by have := w.1; omega), hR_newC, N1, if_pos rfl]
    have ch : Chg g0 (gN g0 (hN h1) m) h1 (putR (newC (putI h1 m 6 12) 48 16) m 2 (some (hN h1))) m := by
      refine ⟨by show hN h1 ≤ hN h1 + 1; omega, fun _ => rfl, fun b hb => ⟨gN_ne (by omega), by rw [hK_putR, hK_newC, N1, if_neg (by omega), hK_putI], by rw [hL_putR, hL_newC, N1, if_neg (by omega), hL_putI], fun q k => ?_⟩⟩
      have bm : b ≠ m := fun e => q (by rw [e]; exact gm1)
      rw [hI_putR, hI_newC, N1, if_neg (by omega), hI_putI, if_neg (am_ne bm), hJ_putR, hJ_newC, N1, if_neg (by omega), hJ_putI, hR_putR, if_neg (am_ne bm), hR_newC, N1, if_neg (by omega), hR_putI]
      exact ⟨rfl, rfl, rfl⟩
    refine pv_main d hm ch os ?_ (by simp) rfl ha la kT new (fun h' n' s' q1 q2 q3 q4 q5 => ?_)
    · rw [hI_putR, hI_newC, N1, if_neg (by omega), hI_putI, if_neg (fun w => absurd w.2 (by decide))]
      exact t3
    · have e1 : hN (putR (newC (putI h1 m 6 12) 48 16) m 2 (some (hN h1))) = hN h1 + 1 := rfl
      have e2 : hS (putR (newC (putI h1 m 6 12) 48 16) m 2 (some (hN h1))) = hS h1 + 16 := rfl
      rw [Kt_v, sJ7_put_12]
      exact q h' n' s' q1 (by omega) (by omega) (by omega) (by omega)
  · have n64 : 16 ≤ n ∧ n ≤ 64 := by rcases u2 with w | w | w <;> omega
    have kt := u5.1
    have lt := u5.2.2.2.1
    rw [u1, sJ7_putVal_4, sJ7_putVal_5, sJ7_putVal_7, if_neg (by simp), sJ7_putVal_10, sJ7_putVal_12 (by omega) (by omega), lt, iI_nI, sJ7_putVal_13, sJ7_putVal_14, sJ7_putVal_16, if_pos (by rw [i_0, ne_eq, iI_eq (by omega) (by omega) (by omega) (by omega)]; omega)]
    refine pv_main d hm Chg.refl ⟨t1, t4, t5, t6, u1, u2, u3, u5⟩ t3 l15 rfl ha la kT new (fun h' n' s' q1 q2 q3 q4 q5 => ?_)
    rw [Kt_v, sJ7_put_12]
    exact q h' n' s' q1 (by omega) (by omega) (by omega) (by omega)
theorem CR_nM (c : CR h v) : CR (newC h 6 8) (vnM (vnw v 6 8) (hN v.1)) := by
  have hn := c.hn
  have hs := c.hs
  have he := fun k => c.he (k := k)
  obtain ⟨g, c⟩ := c
  have kn := kz' (h := h) (Nat.le_refl _)
  have kv : ∀ b, hK (vnM (vnw v 6 8) (hN v.1)).1 b = if b = hN v.1 then 6 else hK v.1 b := fun b => by
    rw [vnM_1, vnw_1, hK_newC]
  refine ⟨gN g (hN h) (hN h), CRg_up (a0 := hN h) c ⟨by rw [hN_newC]; omega, fun k => rfl, fun b hb => ⟨gN_ne (by omega), by rw [hK_newC, if_neg (by omega)], by rw [hL_newC, if_neg (by omega)], fun _ k => ⟨by rw [hI_newC, if_neg (by omega)], by rw [hJ_newC, if_neg (by omega)], by rw [hR_newC, if_neg (by omega)]⟩⟩⟩ (fun b hb => ?_) (by rw [kn]; unfold shr; omega) (by rw [kn]; decide) (by rw [kn]; decide) (by show hN v.1 + 1 = hN h + 1; omega) (by show hS v.1 + 8 = hS h + 8; omega) (fun k => (he k).symm) ?_⟩
  · refine ⟨by rw [kv, if_neg (by omega)], fun _ => rfl, fun q => ⟨?_, fun k => ⟨?_, ?_, ?_⟩, rfl, rfl, ?_, rfl⟩⟩
    · rw [vnM_1, vnw_1, hL_newC, if_neg (by omega)]
    · rw [vnM_1, vnw_1, hI_newC, if_neg (by omega)]
    · rw [vnM_1, vnw_1, hJ_newC, if_neg (by omega)]
    · rw [vnM_1, vnw_1, hR_newC, if_neg (by omega)]
    · funext s
      rw [vMp_nM, if_neg (by omega)]
      rfl
  · intro b hb q
    have q' : b = hN h := by
      rw [hN_newC] at hb
      omega
    subst q'
    have k1 : hK (vnM (vnw v 6 8) (hN v.1)).1 (hN h) = 6 := by rw [kv, if_pos hn]
    refine ⟨fun _ => ⟨gN_eq, by rw [k1, hK_newC, if_pos rfl]⟩, fun _ w => absurd (Or.inr (Or.inl k1)) w, fun w => by omega, fun _ => ?_, fun w => by omega, fun w => by omega⟩
    refine ⟨[], List.nodup_nil, by simp, by rw [hI_newC, if_pos rfl]; rfl, fun x hx => (by cases hx), fun x y hx => (by cases hx), fun s z e => ?_, Or.inl ⟨by rw [hR_newC, if_pos rfl], rfl, by rw [hI_newC, if_pos rfl]⟩⟩
    rw [vMp_nM, if_pos hn] at e
    cases e
theorem v_nM (c : CR h v) (q : ∀ h', CR h' (vnM (vnw v 6 8) (hN v.1)) → Q (Sum.inl none) h') : Cl r 77 [vR (some (hN h))] (newC h 6 8) Q := by
  have k0 : hK (newC h 6 8) (hN h) = 6 := by rw [hK_newC, if_pos rfl]
  rw [eJ7_init, sJ7_init_0, sJ7_init_1 (by omega) (by omega), eJ6_init, sJ6_init_0, sJ6_init_1, sJ6_init_4, Kt_0, sJ7_init_4, sJ7_init_5, sJ7_init_7 k0, sJ7_init_10]
  exact q _ (CR_nM c)
end MQL
