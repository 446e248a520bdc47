/-! JDK: builders of texts, 2: room *-/
theorem shr_0 (x : Int32) : x >>> ((0 : Int32) &&& 31) = x := by
  rw [show ((0 : Int32) &&& 31) = 0 from by decide]
  apply Int32.toBitVec.inj
  simp
theorem shl_0 (x : Int32) : x <<< ((0 : Int32) &&& 31) = x := by
  rw [show ((0 : Int32) &&& 31) = 0 from by decide]
  apply Int32.toBitVec.inj
  simp
section SB2
variable {r a b n k : Nat} {h : am_H} {v : vT} {Q : am_O → am_H → Prop} {x : Int} {T : List Int32}
theorem jd_copyOfB (hk : hK h b = 44) (bn : b < hN h) (h1 : hL h b < n) (h2 : n ≤ 60000) : Cl r 187 [vR (some b), vI (iI n)] h Q ↔ Q (Sum.inl (some (vR (some (hN h))))) (cpyI (newC h 44 n) b 0 (hN h) 0 (hL h b)) := by
  have nn := nn_i (n := n) (by omega)
  have nl := nn_i (n := hL h b) (by omega)
  have bn' : ¬ (iI n < 0 ∨ 65536 < (iI n).toNatClampNeg) := by
    rw [nn, i_0, iI_lt (by omega) (by omega) (by omega) (by omega)]
    omega
  have hk2 : hK (newC h 44 n) b = 44 := by rw [hK_newC, if_neg (by omega)]; exact hk
  have hl2 : hL (newC h 44 n) b = hL h b := by rw [hL_newC, if_neg (by omega)]
  have hk3 : hK (newC h 44 n) (hN h) = 44 := by rw [hK_newC, if_pos rfl]
  have hl3 : hL (newC h 44 n) (hN h) = n := by rw [hL_newC, if_pos rfl]
  have hm : ∀ (g : am_H) Q, Cl r 246 [vI (iI (hL h b)), vI (iI n)] g Q ↔ _ := fun g Q => jd_min (by omega) (by omega) (by omega) (by omega)
  rw [if_neg (by omega)] at hm
  have c0 : iI n ≠ iI (hL h b) := by rw [ne_eq, iI_eq (by omega) (by omega) (by omega) (by omega)]; omega
  rw [eJ10_copyOf_3, sJ10_copyOf_3_0, sJ10_copyOf_3_1, sJ10_copyOf_3_2 (by omega) (by omega), iI_nI, sJ10_copyOf_3_3, if_pos c0, sJ10_copyOf_3_14, sJ10_copyOf_3_15 bn', nn, sJ10_copyOf_3_17, sJ10_copyOf_3_18, sJ10_copyOf_3_19, sJ10_copyOf_3_20, sJ10_copyOf_3_21, sJ10_copyOf_3_22, sJ10_copyOf_3_23 (by omega) (by omega), hl2, iI_nI, sJ10_copyOf_3_24, sJ10_copyOf_3_25, hm, Kt_v]
  rw [sJ10_copyOf_3_28 ⟨by rw [i_0, iI_le (by omega) (by omega) (by omega) (by omega)]; omega, by decide, by decide, by rw [nl, hl2, show ((0 : Int32)).toNatClampNeg = 0 from rfl]; omega, by rw [nl, hl3, show ((0 : Int32)).toNatClampNeg = 0 from rfl]; omega⟩ ⟨Or.inl hk2, hk3⟩, nl, sJ10_copyOf_3_31, sJ10_copyOf_3_32]
  rfl
theorem sb_ens {cp : Nat} (ha : hK h a = 16) (hb : hR h a 0 = some b) (kb : hK h b = 44) (lb : hL h b = cp) (hc : hI h a 1 = 0) (h1 : n ≤ cp) (h2 : cp ≤ 60000) : Cl r 153 [vR (some a), vI (iI n)] h Q ↔ Q (Sum.inl none) h := by
  have k1 : 40 ≤ hK h b := by omega
  have k2 : hK h b ≤ 49 := by omega
  have c1 : iI n - iI cp ≤ (0 : Int32) := by rw [i_0, iI_sub, iI_le (by omega) (by omega) (by omega) (by omega)]; omega
  simp only [eJ22_ensureCapacityInternal, sJ22_ensureCapacityInternal_0, sJ22_ensureCapacityInternal_1, sJ22_ensureCapacityInternal_4, sJ22_ensureCapacityInternal_5, sJ22_ensureCapacityInternal_6, sJ22_ensureCapacityInternal_9, sJ22_ensureCapacityInternal_10, sJ22_ensureCapacityInternal_11, sJ22_ensureCapacityInternal_12, sJ22_ensureCapacityInternal_13, sJ22_ensureCapacityInternal_14, sJ22_ensureCapacityInternal_17, sJ22_ensureCapacityInternal_18, sJ22_ensureCapacityInternal_19, sJ22_ensureCapacityInternal_22, sJ22_ensureCapacityInternal_23, sJ22_ensureCapacityInternal_24, sJ22_ensureCapacityInternal_27, sJ22_ensureCapacityInternal_28, sJ22_ensureCapacityInternal_31, sJ22_ensureCapacityInternal_32, sJ22_ensureCapacityInternal_35, sJ22_ensureCapacityInternal_38, ha, hb, k1, k2, lb, iI_nI, hc, shr_0, c1, if_true]
/-- a longer row of bytes -/
def sG (h : am_H) (a b n : Nat) : am_H := putR (cpyI (newC h 44 n) b 0 (hN h) 0 (hL h b)) a 0 (some (hN h))
theorem sb_ens2 {cp : Nat} (ha : hK h a = 16) (an : a < hN h) (hb : hR h a 0 = some b) (bn : b < hN h) (kb : hK h b = 44) (lb : hL h b = cp) (hc : hI h a 1 = 0) (h1 : cp < n) (h2 : n ≤ 20000) : Cl r 153 [vR (some a), vI (iI n)] h Q ↔ Q (Sum.inl none) (sG h a b (cp + max (n - cp) (cp + 2))) := by
  have k1 : 40 ≤ hK h b := by omega
  have k2 : hK h b ≤ 49 := by omega
  have c1 : ¬ iI n - iI cp ≤ (0 : Int32) := by rw [i_0, iI_sub, iI_le (by omega) (by omega) (by omega) (by omega)]; omega
  have c2 : iI n - iI cp = iI ((n - cp : Nat) : Int) := by rw [iI_sub]; congr 1; omega
  have c3 : iI cp + iI 2 = iI ((cp + 2 : Nat) : Int) := by rw [iI_add]; rfl
  have hm : ∀ Q, Cl r 245 [vI (iI cp), vI (iI ((n - cp : Nat) : Int)), vI (iI ((cp + 2 : Nat) : Int))] h Q ↔ _ := fun Q => jd_newLength (by omega) (by omega) (by omega) (by omega) (by omega) (by omega)
  have c4 : (cp : Int) + (if ((n - cp : Nat) : Int) < ((cp + 2 : Nat) : Int) then ((cp + 2 : Nat) : Int) else ((n - cp : Nat) : Int)) = ((cp + max (n - cp) (cp + 2) : Nat) : Int) := by
    split <;> omega
  rw [c4] at hm
  have big : ¬ iI ((cp + max (n - cp) (cp + 2) : Nat) : Int) = 2147483647 := by rw [show (2147483647 : Int32) = iI 2147483647 from rfl, iI_eq (by omega) (by omega) (by omega) (by omega)]; omega
  have ky : ∀ g : am_H, hK (cpyI (newC h 44 (cp + max (n - cp) (cp + 2))) b 0 (hN h) 0 (hL h b)) a = 16 := fun _ => by rw [hK_cpyI, hK_newC, if_neg (by omega)]; exact ha
  have nc : ∀ Q, Cl r 186 [vR (some a), vI (iI n)] h Q ↔ Q (Sum.inl (some (vI (iI ((cp + max (n - cp) (cp + 2) : Nat) : Int))))) h := fun Q => by
    simp only [eJ22_newCapacity, sJ22_newCapacity_0, sJ22_newCapacity_1, sJ22_newCapacity_4, sJ22_newCapacity_5, sJ22_newCapacity_6, sJ22_newCapacity_7, sJ22_newCapacity_8, sJ22_newCapacity_11, sJ22_newCapacity_12, sJ22_newCapacity_13, sJ22_newCapacity_14, sJ22_newCapacity_15, sJ22_newCapacity_16, sJ22_newCapacity_18, sJ22_newCapacity_19, sJ22_newCapacity_21, sJ22_newCapacity_22, sJ22_newCapacity_23, sJ22_newCapacity_24, sJ22_newCapacity_27, sJ22_newCapacity_28, sJ22_newCapacity_29, sJ22_newCapacity_32, sJ22_newCapacity_34, sJ22_newCapacity_36, sJ22_newCapacity_38, sJ22_newCapacity_44, sJ22_newCapacity_51, sJ22_newCapacity_53, sJ22_newCapacity_54, sJ22_newCapacity_57, sJ22_newCapacity_58, ha, hb, k1, k2, lb, iI_nI, hc, shr_0, shl_0, c2, i_2, c3, hm, Kt_v, big, ne_eq, not_false_eq_true, if_true]
  have cy : ∀ Q, Cl r 187 [vR (some b), vI (iI ((cp + max (n - cp) (cp + 2) : Nat) : Int))] h Q ↔ _ := fun Q => jd_copyOfB kb bn (by omega) (by omega)
  simp only [eJ22_ensureCapacityInternal, sJ22_ensureCapacityInternal_0, sJ22_ensureCapacityInternal_1, sJ22_ensureCapacityInternal_4, sJ22_ensureCapacityInternal_5, sJ22_ensureCapacityInternal_6, sJ22_ensureCapacityInternal_9, sJ22_ensureCapacityInternal_10, sJ22_ensureCapacityInternal_11, sJ22_ensureCapacityInternal_12, sJ22_ensureCapacityInternal_13, sJ22_ensureCapacityInternal_14, sJ22_ensureCapacityInternal_17, sJ22_ensureCapacityInternal_18, sJ22_ensureCapacityInternal_19, sJ22_ensureCapacityInternal_22, sJ22_ensureCapacityInternal_23, sJ22_ensureCapacityInternal_24, sJ22_ensureCapacityInternal_27, sJ22_ensureCapacityInternal_28, sJ22_ensureCapacityInternal_31, sJ22_ensureCapacityInternal_32, sJ22_ensureCapacityInternal_35, sJ22_ensureCapacityInternal_38, ha, hb, k1, k2, lb, iI_nI, hc, shr_0, shl_0, c1, if_false, nc, cy, Kt_v]
  rw [sJ22_ensureCapacityInternal_35 (by rw [hK_cpyI, hK_newC, if_neg (by omega)]; exact ha), sJ22_ensureCapacityInternal_38]
  unfold sG
  rw [lb]
theorem byt_fit (y : Int32) : y.toInt8.toInt32.toInt8.toInt32 = y.toInt8.toInt32 := by simp
theorem sb_apT (ha : hK h a = 16) (hb : hR h a 0 = some b) (kb : hK h b = 44) (hc : hI h a 1 = 0) (hs : hI h a 3 = iI n) (h1 : n < hL h b) (h2 : hL h b ≤ 60000) (x1 : 0 ≤ x) (x2 : x ≤ 255) :
    Rn r 103 10 [some (vR (some a)), some (vI (iI x))] [] h Q ↔ Q (Sum.inl (some (vR (some a)))) (putI (putI h a 3 (iI (n + 1))) b n (iI x).toInt8.toInt32) := by
  have one : ¬ ((1 : Int32) = 0) := by decide
  have ce : ∀ Q, Cl r 155 [vI (iI x)] h Q ↔ Q (Sum.inl (some (vI 1))) h := fun Q => by
    have c1 : ¬ (255 : Int32) < iI x := by rw [i_255, iI_lt (by omega) (by omega) (by omega) (by omega)]; omega
    simp only [eJ14_canEncode, sJ14_canEncode_0, sJ14_canEncode_1, sJ14_canEncode_4, sJ14_canEncode_7, sJ14_canEncode_8, sJ14_canEncode_11, sJ14_canEncode_12, c1, if_false, show am_fit 4 1 = true from rfl]
  have lat : ∀ Q, Cl r 154 [vR (some a)] h Q ↔ Q (Sum.inl (some (vI 1))) h := fun Q => by
    simp only [eJ22_isLatin1, sJ22_isLatin1_0, sJ22_isLatin1_3, sJ22_isLatin1_6, sJ22_isLatin1_7, sJ22_isLatin1_10, sJ22_isLatin1_13, sJ22_isLatin1_14, sJ22_isLatin1_17, sJ22_isLatin1_18, ha, hc, ne_eq, not_true_eq_false, one, if_false, show am_fit 4 1 = true from rfl]
  have c3 : (iI n + (1 : Int32)) = iI (n + 1) := by rw [i_1, iI_add]
  have bd := bd_i (n := n) (l := hL h b) h1 (by omega)
  have fit : am_fit 5 (iI x).toInt8.toInt32 = true := decide_eq_true (byt_fit _)
  have kb2 : hK (putI h a 3 (iI (n + 1))) b = 44 := kb
  have bd2 : ¬ (iI n < 0 ∨ hL (putI h a 3 (iI (n + 1))) b ≤ (iI n).toNatClampNeg) := bd
  rw [sJ22_append_10, sJ22_append_11 ha, lat, Kt_v, sJ22_append_14, if_neg one, sJ22_append_17, sJ22_append_18, ce, Kt_v, sJ22_append_21, if_neg one, sJ22_append_24, sJ22_append_25 ha, hb, sJ22_append_28, sJ22_append_29, sJ22_append_30 ha, hs, sJ22_append_33, sJ22_append_34, sJ22_append_35, c3, sJ22_append_36 ha, sJ22_append_39, sJ22_append_40, sJ22_append_41 kb2 fit bd2, nn_i (by omega), sJ22_append_42, sJ22_append_75, sJ22_append_76]
/-- one more letter -/
theorem v_apc (c : CR h v) (ha : hK v.1 a = 16) (x1 : 0 ≤ x) (x2 : x ≤ 255) (hl : (vTx v a).length ≤ 500)
    (q : ∀ h' n' s', CR h' (vsT (vbm v n' s') a (vTx v a ++ [(iI x).toInt8.toInt32])) → hN v.1 ≤ n' → n' ≤ hN v.1 + 1 → hS v.1 ≤ s' → s' ≤ hS v.1 + 2 * (vTx v a).length + 2 → Q (Sum.inl (some (vR (some a)))) h') : Cl r 64 [vR (some a), vI (iI x)] h Q := by
  obtain ⟨b, b1, b2, b3, b4, b5, b6, b7, b8, b9, b10, b11⟩ := c.sb ha
  have la := c.lt (a := a) (by rw [ha]; decide)
  have hvn := c.hn
  have hvs := c.hs
  have k0 : 0 < hK h a := by omega
  have k1 : hK h a < 40 := by omega
  have c1 : iI (vTx v a).length + (1 : Int32) = iI (((vTx v a).length + 1 : Nat) : Int) := by rw [i_1, iI_add]; rfl
  have len1 : (vTx v a ++ [(iI x).toInt8.toInt32]).length = (vTx v a).length + 1 := by simp
  have get1 : ∀ i, i < (vTx v a).length → (vTx v a ++ [(iI x).toInt8.toInt32]).getD i 0 = (vTx v a).getD i 0 := fun i hi => by
    rw [List.getD_eq_getElem?_getD, List.getD_eq_getElem?_getD, List.getElem?_append_left hi]
  have get2 : (vTx v a ++ [(iI x).toInt8.toInt32]).getD (vTx v a).length 0 = (iI x).toInt8.toInt32 := by
    rw [List.getD_eq_getElem?_getD, List.getElem?_append_right (Nat.le_refl _), Nat.sub_self]
    rfl
  have okb : okB (vTx v a ++ [(iI x).toInt8.toInt32]) := by
    intro y hy
    rcases List.mem_append.mp hy with z | z
    · exact b8 y z
    · rw [List.mem_singleton.mp z]; exact byt_fit _
  rw [eJ23_append, sJ23_append_0, sJ23_append_1, sJ23_append_2 k0 k1, eJ22_append, sJ22_append_0, sJ22_append_1, sJ22_append_2 b11, b9, sJ22_append_5, sJ22_append_6, c1, sJ22_append_7 b11]
  by_cases p : (vTx v a).length + 1 ≤ hL h b
  · rw [sb_ens (cp := hL h b) b11 b1 b3 rfl b7 p (by omega), Kt_0, sb_apT b11 b1 b3 b7 b9 (by omega) (by omega) x1 x2, Kt_v, sJ23_append_5, sJ23_append_6, sJ23_append_7]
    refine q _ (hN v.1) (hS v.1) ?_ (Nat.le_refl _) (by omega) (Nat.le_refl _) (by omega)
    have key := CR_sb (e' := b) (T := vTx v a ++ [(iI x).toInt8.toInt32]) (h' := putI (putI h a 3 (iI ((vTx v a).length + 1))) b (vTx v a).length (iI x).toInt8.toInt32) c ha b1 (Nat.le_refl _) (by show hN h ≤ hN h + 1; omega) (fun _ _ => ⟨rfl, rfl⟩) (fun _ => rfl) (fun d hd q1 q2 k => ⟨by rw [hI_putI, if_neg (am_ne q2), hI_putI, if_neg (am_ne q1)], rfl, rfl⟩) (Or.inl rfl) b5 (by rw [len1]; exact p) okb b1 (by rw [hI_putI, if_neg (am_ne (Ne.symm b10)), hI_putI, if_neg (fun w => absurd w.2 (by decide))]; exact b7) (by rw [hI_putI, if_neg (am_ne (Ne.symm b10)), hI_putI, if_pos ⟨rfl, rfl⟩, len1]; rfl) (fun i hi => ?_)
    · rw [hvn.symm, hvs.symm]; exact key
    · rw [len1] at hi
      rw [hI_putI]
      by_cases w : i = (vTx v a).length
      · rw [if_pos ⟨rfl, w⟩, w, get2]
      · rw [if_neg (fun y => w y.2), hI_putI, if_neg (am_ne b10), get1 i (by omega)]
        exact b6 i (by omega)
  · have m1 : max ((vTx v a).length + 1 - hL h b) (hL h b + 2) = hL h b + 2 := by omega
    rw [sb_ens2 (cp := hL h b) b11 la b1 b2 b3 rfl b7 (by omega) (by omega), Kt_0, m1]
    have cpn : hL h b = (vTx v a).length := by omega
    have N1 : hN (sG h a b (hL h b + (hL h b + 2))) = hN h + 1 := rfl
    have kk : ∀ d, d < hN h → hK (sG h a b (hL h b + (hL h b + 2))) d = hK h d := fun d hd => by unfold sG; rw [hK_putR, hK_cpyI, hK_newC, if_neg (by omega)]
    have ll : ∀ d, d < hN h → hL (sG h a b (hL h b + (hL h b + 2))) d = hL h d := fun d hd => by unfold sG; rw [hL_putR, hL_cpyI, hL_newC, if_neg (by omega)]
    have kn : hK (sG h a b (hL h b + (hL h b + 2))) (hN h) = 44 := by unfold sG; rw [hK_putR, hK_cpyI, hK_newC, if_pos rfl]
    have ln : hL (sG h a b (hL h b + (hL h b + 2))) (hN h) = hL h b + (hL h b + 2) := by unfold sG; rw [hL_putR, hL_cpyI, hL_newC, if_pos rfl]
    have ii : ∀ d k, d < hN h → hI (sG h a b (hL h b + (hL h b + 2))) d k = hI h d k := fun d k hd => by unfold sG; rw [hI_putR, hI_cpyI, if_neg (fun w => by have := w.1; omega), hI_newC, if_neg (by omega)]
    have inn : ∀ k, k < hL h b → hI (sG h a b (hL h b + (hL h b + 2))) (hN h) k = hI h b k := fun k hk => by
      unfold sG
      rw [hI_putR, hI_cpyI, if_pos ⟨rfl, by omega, by omega⟩, hI_newC, if_neg (by omega)]
      congr 1
      omega
    have ra : hR (sG h a b (hL h b + (hL h b + 2))) a 0 = some (hN h) := by unfold sG; rw [hR_putR, if_pos ⟨rfl, rfl⟩]
    have rr : ∀ d k, d < hN h → d ≠ a → hR (sG h a b (hL h b + (hL h b + 2))) d k = hR h d k := fun d k hd hda => by unfold sG; rw [hR_putR, if_neg (am_ne hda), hR_cpyI, hR_newC, if_neg (by omega)]
    have jj : ∀ d k, d < hN h → hJ (sG h a b (hL h b + (hL h b + 2))) d k = hJ h d k := fun d k hd => by unfold sG; rw [hJ_putR, hJ_cpyI, hJ_newC, if_neg (by omega)]
    have ss : hS (sG h a b (hL h b + (hL h b + 2))) = hS h + (hL h b + (hL h b + 2)) := rfl
    have ee : ∀ k, hE (sG h a b (hL h b + (hL h b + 2))) k = hE h k := fun _ => rfl
    generalize sG h a b (hL h b + (hL h b + 2)) = h1 at *
    rw [sb_apT (by rw [kk a la]; exact b11) ra kn (by rw [ii a 1 la]; exact b7) (by rw [ii a 3 la]; exact b9) (by omega) (by omega) x1 x2, Kt_v, sJ23_append_5, sJ23_append_6, sJ23_append_7]
    refine q _ (hN v.1 + 1) (hS v.1 + (hL h b + (hL h b + 2))) ?_ (by omega) (by omega) (by omega) (by omega)
    have nha : a ≠ hN h := by omega
    have key := CR_sb (e' := hN h) (T := vTx v a ++ [(iI x).toInt8.toInt32]) (h' := putI (putI h1 a 3 (iI ((vTx v a).length + 1))) (hN h) (vTx v a).length (iI x).toInt8.toInt32) c ha b1 (by show hN h ≤ hN h1; omega) (by show hN h1 ≤ hN h + 1; omega) (fun d hd => ⟨kk d hd, ll d hd⟩) ee (fun d hd q1 q2 k => ⟨?_, jj d k hd, rr d k hd q1⟩) (Or.inr ⟨rfl, by show hN h < hN h1; omega, kn⟩) (by rw [hL_putI, hL_putI, ln]; omega) (by rw [len1, hL_putI, hL_putI, ln]; omega) okb ra ?_ ?_ (fun i hi => ?_)
    · rw [show hN (putI (putI h1 a 3 (iI ((vTx v a).length + 1))) (hN h) (vTx v a).length (iI x).toInt8.toInt32) = hN v.1 + 1 by rw [← hvn]; exact N1, show hS (putI (putI h1 a 3 (iI ((vTx v a).length + 1))) (hN h) (vTx v a).length (iI x).toInt8.toInt32) = hS v.1 + (hL h b + (hL h b + 2)) by rw [← hvs]; exact ss] at key
      exact key
    · rw [hI_putI, if_neg (fun w => by have := w.1; omega), hI_putI, if_neg (am_ne q1), ii d k hd]
    · rw [hI_putI, if_neg (am_ne nha), hI_putI, if_neg (fun w => absurd w.2 (by decide)), ii a 1 la]; exact b7
    · rw [hI_putI, if_neg (am_ne nha), hI_putI, if_pos ⟨rfl, rfl⟩, len1]; rfl
    · rw [len1] at hi
      rw [hI_putI]
      by_cases w : i = (vTx v a).length
      · rw [if_pos ⟨rfl, w⟩, w, get2]
      · rw [if_neg (fun y => w y.2), hI_putI, if_neg (am_ne (Ne.symm nha)), inn i (by omega), get1 i (by omega)]
        exact b6 i (by omega)
end SB2
