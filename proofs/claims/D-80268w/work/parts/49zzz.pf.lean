/-! JDK: maps, 19: put, its end *-/
section PFL
variable {g g0 : Nat → Nat} {h h0 : am_H} {v v' v0 : vT} {r m t n : Nat} {NS : List Nat} {Q : am_O → am_H → Prop} {T : List Int32} {z : Nat}
theorem MS_v (e1 : ∀ k, hK v'.1 k = hK v.1 k) (e2 : ∀ k, vTx v' k = vTx v k) (e3 : ∀ s, vMp v' m s = vMp v m s) (ms : MS g h v m t n NS) : MS g h v' m t n NS := by
  obtain ⟨s1, s2, s3, s4, s5, s6, s7, ⟨u1, u2, u3, u4, u5⟩⟩ := ms
  have eT : ∀ x, ndT h v' x = ndT h v x := fun x => by
    unfold ndT
    cases hR h x 1 with
    | none => rfl
    | some k => exact e2 k
  have sm : ∀ x, x ∈ NS → sameN h h v v' x := fun x _ => ⟨rfl, fun _ => ⟨rfl, rfl⟩, eT x⟩
  refine ⟨s1, fun x hx => ?_, fun x y hx hy e => s3 x y hx hy (by rw [eT, eT] at e; exact e), fun s z e => ?_, s5, s6, s7, ⟨u1, u2, u3, u4, fun i hi => ?_⟩⟩
  · obtain ⟨d1, d2, d3, k, y, d4, d5, d6, d7, d8, d9, d10⟩ := s2 x hx
    exact ⟨d1, d2, d3, k, y, d4, d5, by rw [e1, e2]; exact d6, by rw [e2]; exact d7, by rw [e2]; exact d8, d9, by rw [e2, e3]; exact d10⟩
  · rw [e3] at e
    obtain ⟨x, x1, x2⟩ := s4 s z e
    exact ⟨x, x1, by rw [eT]; exact x2⟩
  · rcases u5 i hi with w | ⟨w1, w2⟩
    · exact Or.inl w
    · exact Or.inr ⟨w1, isTB_l sm w2⟩
theorem CR_map (c : CRg g0 h0 v0) (hm : hK v0.1 m = 6) (ch : Chg g0 g h0 h m) (ms : MS g h (vsM v0 m T z) m t n NS) (sz : hI h m 4 = iI NS.length) (l16 : NS.length ≤ 16) (ln : NS.length ≤ n / 4 * 3) : CR h (vsM (vbm v0 (hN h) (hS h)) m T z) := by
  have lm : m < hN h0 := by rw [← c.1]; exact hK_lt hm (by decide)
  have vm := (c.2.2.2.2 m lm).1 (by rw [hm]; decide)
  have km : hK h0 m = 6 := by rw [vm.2]; exact hm
  have kv : ∀ b, hK (vsM (vbm v0 (hN h) (hS h)) m T z).1 b = hK v0.1 b := fun b => hK_bmp (by rw [c.1]; exact ch.1)
  have ms' : MS g h (vsM (vbm v0 (hN h) (hS h)) m T z) m t n NS := MS_v (v := vsM v0 m T z) kv (fun _ => rfl) (fun _ => rfl) ms
  refine ⟨g, CRg_up (a0 := m) c ch ?_ (by rw [km]; unfold shr; omega) (by rw [km]; decide) (by rw [km]; decide) rfl rfl (fun k => by rw [ch.2.1]; exact c.2.2.1 k) ?_⟩
  · intro b hb
    refine ⟨kv b, fun _ => rfl, fun q => ⟨rfl, fun k => ⟨rfl, rfl, rfl⟩, rfl, rfl, ?_, rfl⟩⟩
    funext s
    rw [vMp_sM, if_neg (fun w => q w.1)]
    rfl
  · intro b hb q
    by_cases e : b = m
    · subst e
      refine ⟨fun _ => ⟨by rw [(ch.2.2 b lm).1]; exact vm.1, by rw [kv, (ch.2.2 b lm).2.1, km, hm]⟩, fun _ w => absurd (Or.inr (Or.inl (by rw [kv]; exact hm))) w, fun w => ?_, fun _ => ?_, fun w => ?_, fun w => ?_⟩
      · rw [kv, hm] at w; omega
      · obtain ⟨s1, s2, s3, s4, s5, s6, s7, s8⟩ := ms'
        exact ⟨NS, s1, l16, sz, s2, s3, s4, Or.inr ⟨t, n, s5, s6, s7, ln, s8⟩⟩
      · rw [kv, hm] at w; omega
      · rw [kv, hm] at w; omega
    · refine VO_0 ?_
      rw [kv]
      exact kz (by rw [c.1]; omega)
theorem MS_mI {k : Nat} {x : Int32} (hk : k = 4 ∨ k = 5) (km : hK h m = 6) (ms : MS g h v m t n NS) : MS g (putI h m k x) v m t n NS := by
  obtain ⟨s1, s2, s3, s4, s5, s6, s7, ⟨u1, u2, u3, u4, u5⟩⟩ := ms
  have nm : ∀ x, x ∈ NS → x ≠ m := fun x hx e => by have := (s2 x hx).2.2.1; rw [e, km] at this; omega
  have key : ∀ y, y ∈ NS → ∀ j, hI (putI h m k x) y j = hI h y j := fun y hy j => by rw [hI_putI, if_neg (am_ne (nm y hy))]
  have sm : ∀ y, y ∈ NS → sameN h (putI h m k x) v v y := fun y hy => ⟨rfl, fun j => ⟨key y hy j, rfl⟩, rfl⟩
  refine ⟨s1, fun y hy => isNd_k (s2 y hy) rfl (Nat.le_refl _) rfl (key y hy 0) rfl rfl, s3, s4, s5, s6, by rw [hI_putI, if_neg (fun w => by omega)]; exact s7, ⟨u1, u2, u3, u4, fun i hi => ?_⟩⟩
  refine bin_tr (v := v) (fun y hy _ => sm y hy) (fun y => ?_) (u5 i hi)
  constructor
  · rintro ⟨w1, w2⟩
    rw [key y w1 0] at w2
    exact ⟨w1, w2⟩
  · rintro ⟨w1, w2⟩
    exact ⟨w1, by rw [key y w1 0]; exact w2⟩
theorem pv_fin {l1 l2 l3 l4 l6 l7 l8 l9 l10 l11 l12 : Option am_V} (c : CRg g0 h0 v0) (hm : hK v0.1 m = 6) (ch : Chg g0 g h0 h m) (ms : MS g h (vsM v0 m T z) m t n NS) (sz : hI h m 4 = iI (NS.length - 1)) (l1' : 1 ≤ NS.length) (l16 : NS.length ≤ 16)
    (post : ∀ h' n' s', CR h' (vsM (vbm v0 n' s') m T z) → hN h ≤ n' → n' ≤ hN h + 1 → hS h ≤ s' → s' ≤ hS h + 32 → Q (Sum.inl (some (vR none))) h') :
    Rn r 165 259 [some (vR (some m)), l1, l2, l3, l4, some (vI 1), l6, l7, l8, l9, l10, l11, l12] [] h Q := by
  have lm : m < hN h0 := by rw [← c.1]; exact hK_lt hm (by decide)
  have vm := (c.2.2.2.2 m lm).1 (by rw [hm]; decide)
  have km : hK h m = 6 := by rw [(ch.2.2 m lm).2.1, vm.2]; exact hm
  have gm : g m = m := by rw [(ch.2.2 m lm).1]; exact vm.1
  have e1 : iI (NS.length - 1) + (1 : Int32) = iI NS.length := by rw [i_1, iI_add]; congr 1; omega
  have n64 : 16 ≤ n ∧ n ≤ 64 := by rcases ms.2.2.2.2.2.1 with q | q | q <;> omega
  rw [sJ7_putVal_259, sJ7_putVal_260, sJ7_putVal_261 km, sJ7_putVal_264, sJ7_putVal_265, sJ7_putVal_266 km, sJ7_putVal_269, sJ7_putVal_270, sJ7_putVal_271 (by exact km), hI_putI, if_neg (fun w => absurd w.2 (by decide)), sz, sJ7_putVal_274, sJ7_putVal_275, e1, sJ7_putVal_276, sJ7_putVal_277 (by exact km), sJ7_putVal_280, sJ7_putVal_281 (by exact km), hI_putI, if_neg (fun w => absurd w.2 (by decide)), hI_putI, if_neg (fun w => absurd w.2 (by decide)), ms.2.2.2.2.2.2.1, sJ7_putVal_284]
  have ms2 : MS g (putI (putI h m 5 (hI h m 5 + 1)) m 4 (iI NS.length)) (vsM v0 m T z) m t n NS := MS_mI (Or.inl rfl) km (MS_mI (Or.inr rfl) km ms)
  have ch2 : Chg g0 g h0 (putI (putI h m 5 (hI h m 5 + 1)) m 4 (iI NS.length)) m := by
    refine ch.trans ⟨Nat.le_refl _, fun _ => rfl, fun b _ => ⟨rfl, rfl, rfl, fun q k => ⟨?_, rfl, rfl⟩⟩⟩
    have bm : b ≠ m := fun e => q (by rw [e]; exact gm)
    rw [hI_putI, if_neg (am_ne bm), hI_putI, if_neg (am_ne bm)]
  have sz2 : hI (putI (putI h m 5 (hI h m 5 + 1)) m 4 (iI NS.length)) m 4 = iI NS.length := by rw [hI_putI, if_pos ⟨rfl, rfl⟩]
  have aft : ∀ (q : am_H), hK q m = 6 → ∀ l1 l2 l3 l4 l6 l7 l8 l9 l10 l11 l12 : Option am_V, Rn r 165 292 [some (vR (some m)), l1, l2, l3, l4, some (vI 1), l6, l7, l8, l9, l10, l11, l12] [] q Q ↔ Q (Sum.inl (some (vR none))) q := fun q kq l1 l2 l3 l4 l6 l7 l8 l9 l10 l11 l12 => by
    rw [sJ7_putVal_292, sJ7_putVal_293, sJ7_putVal_295 kq, eJ7_afterNodeInsertion, sJ7_afterNodeInsertion_0, Kt_0, sJ7_putVal_298, sJ7_putVal_299]
  by_cases p : NS.length ≤ n / 4 * 3
  · rw [if_pos (by rw [iI_le (by omega) (by omega) (by omega) (by omega)]; omega), aft _ (by exact km)]
    exact post _ (hN h) (hS h) (CR_map c hm ch2 ms2 sz2 l16 p) (Nat.le_refl _) (by omega) (Nat.le_refl _) (by omega)
  · have n16 : n = 16 := by
      have h6 := ms.2.2.2.2.2.1
      omega
    subst n16
    rw [if_neg (by rw [iI_le (by omega) (by omega) (by omega) (by omega)]; omega), sJ7_putVal_287, sJ7_putVal_288 (by exact km)]
    refine v_resize2 (n := 16) (Or.inl rfl) ms2 km gm (Nat.lt_of_lt_of_le lm ch.1) (fun h' c3 m3 e2 e3 e4 => ?_)
    rw [Kt_v, sJ7_putVal_291]
    have km3 : hK h' m = 6 := by rw [(c3.2.2 m (Nat.lt_of_lt_of_le lm ch.1)).2.1]; exact km
    rw [aft h' km3]
    have e2' : hN h' = hN h + 1 := e2
    have e3' : hS h' = hS h + 32 := e3
    have := CR_map c hm (ch2.trans c3) m3 (by rw [e4 4 (by decide)]; exact sz2) l16 (by omega)
    exact post h' (hN h') (hS h') this (by omega) (by omega) (by omega) (by omega)
end PFL
