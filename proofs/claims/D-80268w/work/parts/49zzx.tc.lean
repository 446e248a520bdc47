/-! JDK: maps, 17: a bin becomes a tree *-/
/-- the texts that a view shows lie in the heap -/
def STR (h : am_H) (v : vT) : Prop := ∀ k, (hK v.1 k = 10 ∨ hK v.1 k = 11) → ∃ b, RS h k b (vTx v k) ∧ (hK h b = 44 ∨ hK v.1 k = 11)
theorem len_flt (p : Nat → Bool) : ∀ l : List Nat, l.length = (l.filter p).length + (l.filter (fun x => !p x)).length := by
  intro l
  induction l with
  | nil => rfl
  | cons x l ih =>
    rw [List.filter_cons, List.filter_cons, List.length_cons]
    cases p x
    · simp only [Bool.not_false, if_true, Bool.false_eq_true, if_false, List.length_cons]
      omega
    · simp only [Bool.not_true, if_true, Bool.false_eq_true, if_false, List.length_cons]
      omega
section TCL
variable {g g0 : Nat → Nat} {h h0 : am_H} {v v0 : vT} {r m t n x ix : Nat} {NS : List Nat} {Q : am_O → am_H → Prop}
theorem ndF_of (s : STR h v) (d : isNd g h v m x) : ndF h v x := by
  obtain ⟨n1, n2, n3, k, z, n4, n5, n6, n7, n8, n9, n10⟩ := d
  obtain ⟨b, s1, s2⟩ := s k (by omega)
  have e : ndT h v x = vTx v k := by unfold ndT; rw [n4]
  exact ⟨by omega, by omega, by rw [e]; exact n8, k, b, n4, by rw [e]; exact s1, by rw [e]; exact n7, fun w => by rw [e] at w; omega⟩
theorem RS_same {h' : am_H} {a b : Nat} {T : List Int32} (s : RS h a b T) (e : ∀ b, b < hN h → hK h' b = hK h b ∧ hL h' b = hL h b ∧ (hK h b ≠ 48 → hK h b ≠ 12 → hK h b ≠ 13 → ∀ k, hI h' b k = hI h b k ∧ hR h' b k = hR h b k)) : RS h' a b T := by
  obtain ⟨s1, s2, s3, s4, s5, s6, s7, s8⟩ := s
  have la : a < hN h := hK_lt (c := hK h a) rfl (by omega)
  have lb : b < hN h := hK_lt (c := hK h b) rfl (by omega)
  obtain ⟨x1, x2, x3⟩ := e a la
  obtain ⟨y1, y2, y3⟩ := e b lb
  have x3 := x3 (by omega) (by omega) (by omega)
  have y3 := y3 (by omega) (by omega) (by omega)
  exact ⟨by omega, by omega, by rw [(x3 0).2]; exact s3, by rw [y1]; exact s4, by rw [y2]; exact s5, fun i hi => by rw [(y3 i).1]; exact s6 i hi, by rw [(x3 1).1]; exact s7, s8⟩
theorem rng_chn {g : am_H} {s k : Nat} (e : ∀ i, i < k → hR g (s + i) 3 = if i + 1 < k then some (s + i + 1) else none) : ∀ d i, i + d = k → chn g (if i < k then some (s + i) else none) (List.range' (s + i) d) := by
  intro d
  induction d with
  | zero =>
    intro i hi
    rw [if_neg (by omega)]
    rfl
  | succ d ih =>
    intro i hi
    rw [if_pos (by omega), List.range'_succ]
    refine ⟨rfl, ?_⟩
    rw [e i (by omega)]
    exact ih (i + 1) (by omega)
theorem v_treeBin {xs : List Nat} {hs : Int32} (ms : MS g h v m t 64 NS) (st : STR h v) (ku : hE h 33 = hE h 33) (km : hK h m = 6) (gm : g m = m) (lm : m < hN h) (ib : bIx 64 hs = ix) (ch : chn h (hR h t ix) xs) (nod : xs.Nodup) (x12 : ∀ x, x ∈ xs → hK h x = 12) (mem : ∀ x, x ∈ xs ↔ (x ∈ NS ∧ bIx 64 (hI h x 0) = ix)) (l2 : 2 ≤ xs.length) (l16 : NS.length ≤ 16)
    (post : ∀ h' g' NS', Chg g g' h h' m → MS g' h' v m t 64 NS' → NS'.length = NS.length → hN h' ≤ hN h + 16 → hS h' ≤ hS h + 176 → hS h ≤ hS h' → (∀ k, hI h' m k = hI h m k) → Q (Sum.inl none) h') : Cl r 209 [vR (some m), vR (some t), vI hs] h Q := by
  obtain ⟨s1, s2, s3, s4, s5, s6, s7, ⟨u1, u2, u3, u4, u5⟩⟩ := ms
  have bi := bIx_lt 64 (Or.inr (Or.inr rfl)) hs
  rw [ib] at bi
  obtain ⟨x0, rs, rfl⟩ : ∃ x0 rs, xs = x0 :: rs := by
    cases xs with
    | nil => simp at l2
    | cons x l => exact ⟨x, l, rfl⟩
  have e0 : hR h t ix = some x0 := ch.1
  have lx : (x0 :: rs).length ≤ 16 := by
    have p := (List.perm_ext_iff_of_nodup nod (List.Pairwise.filter (fun x => decide (bIx 64 (hI h x 0) = ix)) s1)).mpr (fun a => by rw [mem a, List.mem_filter, decide_eq_true_iff])
    have := p.length_eq
    have := List.length_filter_le (fun x => decide (bIx 64 (hI h x 0) = ix)) NS
    omega
  have c2 : iI ((64 : Nat) : Int) - (1 : Int32) = iI ((64 : Nat) - 1) := by rw [i_1, iI_sub]
  have i64 : (64 : Int32) = iI ((64 : Nat) : Int) := rfl
  rw [eJ7_treeifyBin, sJ7_treeifyBin_0, sJ7_treeifyBin_1, if_neg (by simp), sJ7_treeifyBin_4, sJ7_treeifyBin_5 (by omega) (by omega), u4, iI_nI, sJ7_treeifyBin_6, sJ7_treeifyBin_7, sJ7_treeifyBin_8, sJ7_treeifyBin_10, if_pos (by decide), sJ7_treeifyBin_21, sJ7_treeifyBin_22, sJ7_treeifyBin_23, sJ7_treeifyBin_24, c2, sJ7_treeifyBin_25, sJ7_treeifyBin_26, bi.2, sJ7_treeifyBin_27, sJ7_treeifyBin_28, sJ7_treeifyBin_30 (by omega) (by omega) (by rw [u4]; exact bd_i bi.1 (by decide)), nn_i (by omega), e0, sJ7_treeifyBin_31, sJ7_treeifyBin_32, sJ7_treeifyBin_34, if_neg (by simp), sJ7_treeifyBin_37, sJ7_treeifyBin_38, sJ7_treeifyBin_40, sJ7_treeifyBin_41]
  refine tb_loop (ix := ix) km lm (zs := x0 :: rs) (fun g1 l8 nb => ?_) rs x0 h [] _ (by rw [e0] at ch; exact ch) (fun y hy => by rw [x12 y hy]; exact ⟨by decide, by decide⟩) ⟨rfl, rfl, fun _ => rfl, fun _ _ => ⟨rfl, rfl, fun _ => ⟨rfl, rfl, rfl⟩⟩, fun i hi => by cases hi⟩ rfl
  obtain ⟨b1, b2, b3, b4, b5⟩ := nb
  have kN := (b5 0 (by simp)).1
  rw [Nat.add_zero] at kN
  have kt := (b4 t u3).1
  have lt1 := (b4 t u3).2.1
  rw [sJ7_treeifyBin_93, sJ7_treeifyBin_94, sJ7_treeifyBin_96, sJ7_treeifyBin_98, sJ7_treeifyBin_99 (Or.inr ⟨by rw [kt]; exact u1, by omega, by omega⟩) (by rw [lt1, u4]; exact bd_i bi.1 (by decide)), nn_i (by omega), sJ7_treeifyBin_100, if_neg (by simp), sJ7_treeifyBin_103, sJ7_treeifyBin_105, sJ7_treeifyBin_106 (by rw [hK_putR]; exact kN)]
  -- the new nodes
  have inP : ∀ y, y ∈ List.range' (hN h) (x0 :: rs).length ↔ (hN h ≤ y ∧ y < hN h + (x0 :: rs).length) := fun y => List.mem_range'_1
  have nt : ∀ y, y ∈ List.range' (hN h) (x0 :: rs).length → y ≠ t := fun y hy => by have := (inP y).mp hy; omega
  have old : ∀ b, b < hN h → ∀ k, ¬ (b = t ∧ k = ix) → hR (putR g1 t ix (some (hN h))) b k = hR h b k := fun b hb k q => by rw [hR_putR, if_neg q]; exact ((b4 b hb).2.2 k).2.2
  have new : ∀ i, i < (x0 :: rs).length → ∀ k, hR (putR g1 t ix (some (hN h))) (hN h + i) k = hR g1 (hN h + i) k := fun i hi k => by rw [hR_putR, if_neg (fun w => by have := w.1; omega)]
  have src : ∀ i, i < (x0 :: rs).length → (x0 :: rs).getD i 0 ∈ x0 :: rs := fun i hi => by
    rw [List.getD_eq_getElem?_getD, List.getElem?_eq_getElem hi]
    exact List.getElem_mem hi
  have ixi : ∀ y, y ∈ List.range' (hN h) (x0 :: rs).length → ∃ i, i < (x0 :: rs).length ∧ y = hN h + i := fun y hy => by
    have := (inP y).mp hy
    exact ⟨y - hN h, by omega, by omega⟩
  have ndn : ∀ i, i < (x0 :: rs).length → ndT (putR g1 t ix (some (hN h))) v (hN h + i) = ndT h v ((x0 :: rs).getD i 0) := fun i hi => by
    unfold ndT
    rw [new i hi 1, (b5 i hi).2.2.1]
  have rsame : ∀ b, b < hN h → hK (putR g1 t ix (some (hN h))) b = hK h b ∧ hL (putR g1 t ix (some (hN h))) b = hL h b ∧ (hK h b ≠ 48 → hK h b ≠ 12 → hK h b ≠ 13 → ∀ k, hI (putR g1 t ix (some (hN h))) b k = hI h b k ∧ hR (putR g1 t ix (some (hN h))) b k = hR h b k) := fun b hb => by
    refine ⟨(b4 b hb).1, (b4 b hb).2.1, fun q _ _ k => ⟨((b4 b hb).2.2 k).1, old b hb k (fun w => q (by rw [w.1]; exact u1))⟩⟩
  have nf : ∀ i, i < (x0 :: rs).length → ndF (putR g1 t ix (some (hN h))) v (hN h + i) := fun i hi => by
    have hx := (mem _).mp (src i hi)
    obtain ⟨f1, f2, f3, k, kb, f4, f5, f6, f7⟩ := ndF_of st (s2 _ hx.1)
    have k13 : hK (putR g1 t ix (some (hN h))) (hN h + i) = 13 := (b5 i hi).1
    refine ⟨by omega, by omega, ?_, k, kb, ?_, by rw [ndn i hi]; exact RS_same f5 rsame, by rw [ndn i hi]; exact f6, fun w => ?_⟩
    · rw [ndn i hi, ← f3]
      exact (b5 i hi).2.1
    · rw [new i hi 1, (b5 i hi).2.2.1]
      exact f4
    · have lb : kb < hN h := hK_lt (c := hK h kb) rfl (by have := f5.2.2.2.1; omega)
      rw [(rsame kb lb).1]
      exact f7 (by rw [← ndn i hi]; exact w)
  have inj : ∀ i j, i < (x0 :: rs).length → j < (x0 :: rs).length → (x0 :: rs).getD i 0 = (x0 :: rs).getD j 0 → i = j := fun i j hi hj e => by
    rw [List.getD_eq_getElem?_getD, List.getElem?_eq_getElem hi, List.getD_eq_getElem?_getD, List.getElem?_eq_getElem hj] at e
    exact (List.getElem_inj nod).mp e
  have ty : tyN (putR g1 t ix (some (hN h))) v (fun y => y ∈ List.range' (hN h) (x0 :: rs).length) := by
    refine ⟨fun y hy => ?_, fun y z hy hz e => ?_, ?_, fun y z hy q => ?_⟩
    · obtain ⟨i, hi, rfl⟩ := ixi y hy
      exact ⟨nf i hi, (b5 i hi).1⟩
    · obtain ⟨i, hi, rfl⟩ := ixi y hy
      obtain ⟨j, hj, rfl⟩ := ixi z hz
      rw [ndn i hi, ndn j hj] at e
      have := s3 _ _ ((mem _).mp (src i hi)).1 ((mem _).mp (src j hj)).1 e
      rw [inj i j hi hj this]
    · rfl
    · obtain ⟨i, hi, rfl⟩ := ixi y hy
      rw [new i hi 3, new i hi 7, (b5 i hi).2.2.2.2.1, (b5 i hi).2.2.2.2.2] at q
      apply (inP z).mpr
      rcases q with q | q
      · split at q
        · cases q; omega
        · cases q
      · split at q
        · cases q
        · cases q; omega
  have chp : chn (putR g1 t ix (some (hN h))) (some (hN h)) (List.range' (hN h) (x0 :: rs).length) := by
    have := rng_chn (g := putR g1 t ix (some (hN h))) (s := hN h) (k := (x0 :: rs).length) (fun i hi => by rw [new i hi 3]; exact (b5 i hi).2.2.2.2.1) (x0 :: rs).length 0 (by omega)
    rw [if_pos (by omega)] at this
    exact this
  have bxp : ∀ y, y ∈ List.range' (hN h) (x0 :: rs).length → bIx 64 (hI (putR g1 t ix (some (hN h))) y 0) = ix := fun y hy => by
    obtain ⟨i, hi, rfl⟩ := ixi y hy
    have : hI (putR g1 t ix (some (hN h))) (hN h + i) 0 = hI h ((x0 :: rs).getD i 0) 0 := (b5 i hi).2.1
    rw [this]
    exact ((mem _).mp (src i hi)).2
  refine v_treeify (ix := ix) (ps := List.range' (hN h) (x0 :: rs).length) (by rw [(rsame t u3).1]; exact u1) (by rw [(rsame t u3).2.1]; exact u4) ty chp List.nodup_range' (by rw [List.length_range']; exact l2) bxp (by rw [hR_putR, if_pos ⟨rfl, rfl⟩]) (fun h' rt loF hiF bc e1 e2 tr nb ft nx w1 w2 => ?_)
  rw [Kt_0, sJ7_treeifyBin_109]
  have hNg : hN (putR g1 t ix (some (hN h))) = hN h + (x0 :: rs).length := b1
  have hSg : hS (putR g1 t ix (some (hN h))) = hS h + 11 * (x0 :: rs).length := b2
  -- old cells at the end
  have fo : ∀ b, b < hN h → hK h' b = hK h b ∧ hL h' b = hL h b ∧ ∀ k, hJ h' b k = hJ h b k ∧ hI h' b k = hI h b k ∧ (¬ (b = t ∧ k = ix) → hR h' b k = hR h b k) := fun b hb => by
    obtain ⟨y1, y2, y3, y4, y5⟩ := bc.2.2 b (by omega)
    have nb' : ¬ b ∈ List.range' (hN h) (x0 :: rs).length := fun w => by have := (inP b).mp w; omega
    refine ⟨y1.trans (rsame b hb).1, y2.trans (rsame b hb).2.1, fun k => ⟨(y3 k).trans ((b4 b hb).2.2 k).2.1, (y4 k (fun w => nb' w.1)).trans ((b4 b hb).2.2 k).1, fun q => (y5 k q (fun w => nb' w.1)).trans (old b hb k q)⟩⟩
  have fn : ∀ i, i < (x0 :: rs).length → hK h' (hN h + i) = 13 ∧ hI h' (hN h + i) 0 = hI h ((x0 :: rs).getD i 0) 0 ∧ hR h' (hN h + i) 1 = hR h ((x0 :: rs).getD i 0) 1 ∧ hR h' (hN h + i) 2 = hR h ((x0 :: rs).getD i 0) 2 := fun i hi => by
    obtain ⟨y1, y2, y3, y4, y5⟩ := bc.2.2 (hN h + i) (by omega)
    have hp := (inP (hN h + i)).mpr ⟨by omega, by omega⟩
    refine ⟨y1.trans (b5 i hi).1, (y4 0 (fun w => absurd w.2 (by decide))).trans (b5 i hi).2.1, ?_, ?_⟩
    · rw [y5 1 (fun w => nt _ hp w.1) (fun w => absurd w.2.1 (by decide)), new i hi 1]; exact (b5 i hi).2.2.1
    · rw [y5 2 (fun w => nt _ hp w.1) (fun w => absurd w.2.1 (by decide)), new i hi 2]; exact (b5 i hi).2.2.2.1
  have ltn : ∀ x, x ∈ NS → x < hN h := fun x hx => (s2 x hx).2.1
  have xt : ∀ x, x ∈ NS → x ≠ t := fun x hx e => by have := (s2 x hx).2.2.1; rw [e, u1] at this; omega
  have key : ∀ x, x ∈ NS → hK h' x = hK h x ∧ hI h' x 0 = hI h x 0 ∧ ∀ k, hR h' x k = hR h x k := fun x hx => by
    obtain ⟨y1, y2, y3⟩ := fo x (ltn x hx)
    exact ⟨y1, (y3 0).2.1, fun k => (y3 k).2.2 (fun w => xt x hx w.1)⟩
  have bixp : ∀ i, i < (x0 :: rs).length → bIx 64 (hI h' (hN h + i) 0) = ix := fun i hi => by
    rw [(fn i hi).2.1]
    exact ((mem _).mp (src i hi)).2
  have mN : ∀ y, y ∈ NS.filter (fun x => decide (bIx 64 (hI h x 0) ≠ ix)) ++ List.range' (hN h) (x0 :: rs).length ↔ ((y ∈ NS ∧ bIx 64 (hI h y 0) ≠ ix) ∨ y ∈ List.range' (hN h) (x0 :: rs).length) := fun y => by
    rw [List.mem_append, List.mem_filter, decide_eq_true_iff]
  have gP : ∀ y, y ∈ List.range' (hN h) (x0 :: rs).length → (fun b => if hN h ≤ b then m else g b) y = m := fun y hy => if_pos ((inP y).mp hy).1
  have gO : ∀ y, y < hN h → (fun b => if hN h ≤ b then m else g b) y = g y := fun y hy => if_neg (by omega)
  have ndT1 : ∀ x, x ∈ NS → ndT h' v x = ndT h v x := fun x hx => ndT_k ((key x hx).2.2 1)
  have ndT2 : ∀ i, i < (x0 :: rs).length → ndT h' v (hN h + i) = ndT h v ((x0 :: rs).getD i 0) := fun i hi => by
    unfold ndT
    rw [(fn i hi).2.2.1]
  refine post h' (fun b => if hN h ≤ b then m else g b) (NS.filter (fun x => decide (bIx 64 (hI h x 0) ≠ ix)) ++ List.range' (hN h) (x0 :: rs).length) ⟨by omega, fun k => (bc.2.1 k).trans (b3 k), fun b hb => ⟨gO b hb, (fo b hb).1, (fo b hb).2.1, fun q k => ⟨((fo b hb).2.2 k).2.1, ((fo b hb).2.2 k).1, ((fo b hb).2.2 k).2.2 (fun w => q (by rw [w.1]; exact u2))⟩⟩⟩ ⟨?_, ?_, ?_, ?_, ?_, Or.inr (Or.inr rfl), ?_, ?_⟩ ?_ (by omega) (by omega) (by omega) (fun k => ((fo m lm).2.2 k).2.1)
  · refine List.nodup_append.mpr ⟨List.Pairwise.filter _ s1, List.nodup_range', fun y hy z hz e => ?_⟩
    have h1 := ltn y (List.mem_filter.mp hy).1
    have h2 := (inP z).mp hz
    omega
  · intro x hx
    rcases (mN x).mp hx with w | w
    · exact isNd_k (s2 x w.1) (gO x (ltn x w.1)) (by omega) (key x w.1).1 (key x w.1).2.1 ((key x w.1).2.2 1) ((key x w.1).2.2 2)
    · obtain ⟨i, hi, rfl⟩ := ixi x w
      obtain ⟨n1, n2, n3, k, z, n4, n5, n6, n7, n8, n9, n10⟩ := s2 _ ((mem _).mp (src i hi)).1
      exact ⟨gP _ w, by omega, Or.inr (fn i hi).1, k, z, by rw [(fn i hi).2.2.1]; exact n4, by omega, n6, n7, by rw [(fn i hi).2.1]; exact n8, by rw [(fn i hi).2.2.2]; exact n9, n10⟩
  · intro x y hx hy e
    rcases (mN x).mp hx with w | w
    · rcases (mN y).mp hy with z | z
      · rw [ndT1 x w.1, ndT1 y z.1] at e
        exact s3 x y w.1 z.1 e
      · obtain ⟨i, hi, rfl⟩ := ixi y z
        rw [ndT1 x w.1, ndT2 i hi] at e
        have := s3 _ _ w.1 ((mem _).mp (src i hi)).1 e
        exfalso
        have h1 := ((mem _).mp (src i hi)).2
        rw [← this] at h1
        exact w.2 h1
    · obtain ⟨i, hi, rfl⟩ := ixi x w
      rcases (mN y).mp hy with z | z
      · rw [ndT1 y z.1, ndT2 i hi] at e
        have := s3 _ _ ((mem _).mp (src i hi)).1 z.1 e
        exfalso
        have h1 := ((mem _).mp (src i hi)).2
        rw [this] at h1
        exact z.2 h1
      · obtain ⟨j, hj, rfl⟩ := ixi y z
        rw [ndT2 i hi, ndT2 j hj] at e
        rw [inj i j hi hj (s3 _ _ ((mem _).mp (src i hi)).1 ((mem _).mp (src j hj)).1 e)]
  · intro s z e
    obtain ⟨x, x1, x2⟩ := s4 s z e
    by_cases q : bIx 64 (hI h x 0) = ix
    · obtain ⟨i, hi, ei⟩ := List.mem_iff_getElem.mp ((mem x).mpr ⟨x1, q⟩)
      refine ⟨hN h + i, (mN _).mpr (Or.inr ((inP _).mpr ⟨by omega, by omega⟩)), ?_⟩
      rw [ndT2 i hi, List.getD_eq_getElem?_getD, List.getElem?_eq_getElem hi]
      show ndT h v ((x0 :: rs)[i]) = s
      rw [ei]
      exact x2
    · exact ⟨x, (mN x).mpr (Or.inl ⟨x1, q⟩), by rw [ndT1 x x1]; exact x2⟩
  · rw [((fo m lm).2.2 2).2.2 (fun w => by rw [w.1, u1] at km; omega)]
    exact s5
  · rw [((fo m lm).2.2 6).2.1]
    exact s7
  · refine ⟨by rw [(fo t u3).1]; exact u1, by rw [gO t u3]; exact u2, by omega, by rw [(fo t u3).2.1]; exact u4, fun i hi => ?_⟩
    by_cases q : i = ix
    · subst q
      have pd : (fun x => x ∈ NS.filter (fun x => decide (bIx 64 (hI h x 0) ≠ i)) ++ List.range' (hN h) (x0 :: rs).length ∧ bIx 64 (hI h' x 0) = i) = fun x => x ∈ List.range' (hN h) (x0 :: rs).length := by
        funext x
        apply propext
        constructor
        · rintro ⟨w1, w2⟩
          rcases (mN x).mp w1 with w | w
          · rw [(key x w.1).2.1] at w2
            exact absurd w2 w.2
          · exact w
        · intro w
          refine ⟨(mN x).mpr (Or.inr w), ?_⟩
          obtain ⟨j, hj, rfl⟩ := ixi x w
          exact bixp j hj
      refine Or.inr ⟨rfl, rt, loF, hiF, ft, ?_, ?_, nx, w1, w2⟩
      · rw [pd]; exact tr
      · rw [pd]; exact nb
    · have eR : hR h' t i = hR h t i := ((fo t u3).2.2 i).2.2 (fun w => q w.2)
      rw [eR]
      have sm : ∀ x, x ∈ NS → sameN h h' v v x := fun x hx => by
        refine ⟨(key x hx).1, fun k => ⟨((fo x (ltn x hx)).2.2 k).2.1, (key x hx).2.2 k⟩, ndT1 x hx⟩
      have pe : ∀ x, (x ∈ NS.filter (fun x => decide (bIx 64 (hI h x 0) ≠ ix)) ++ List.range' (hN h) (x0 :: rs).length ∧ bIx 64 (hI h' x 0) = i) ↔ (x ∈ NS ∧ bIx 64 (hI h' x 0) = i) := fun x => by
        constructor
        · rintro ⟨w1, w2⟩
          rcases (mN x).mp w1 with w | w
          · exact ⟨w.1, w2⟩
          · exfalso
            obtain ⟨j, hj, rfl⟩ := ixi x w
            rw [bixp j hj] at w2
            exact q w2.symm
        · rintro ⟨w1, w2⟩
          refine ⟨(mN x).mpr (Or.inl ⟨w1, fun w => q ?_⟩), w2⟩
          rw [(key x w1).2.1] at w2
          omega
      rcases u5 i hi with z | ⟨_, z⟩
      · obtain ⟨ys, c1, c2, c3, c4⟩ := isLB_l sm z
        exact Or.inl ⟨ys, c1, c2, c3, fun x => (c4 x).trans (pe x).symm⟩
      · obtain ⟨rt', lo', hi', c1, c2, c3, c4⟩ := isTB_l sm z
        have pd : (fun x => x ∈ NS.filter (fun x => decide (bIx 64 (hI h x 0) ≠ ix)) ++ List.range' (hN h) (x0 :: rs).length ∧ bIx 64 (hI h' x 0) = i) = fun x => x ∈ NS ∧ bIx 64 (hI h' x 0) = i := funext fun x => propext (pe x)
        exact Or.inr ⟨rfl, rt', lo', hi', c1, by rw [pd]; exact c2, by rw [pd]; exact c3, c4⟩
  · rw [List.length_append, List.length_range']
    have p := (List.perm_ext_iff_of_nodup nod (List.Pairwise.filter (fun x => decide (bIx 64 (hI h x 0) = ix)) s1)).mpr (fun a => by rw [mem a, List.mem_filter, decide_eq_true_iff])
    have e := p.length_eq
    have f := len_flt (fun x => decide (bIx 64 (hI h x 0) = ix)) NS
    have gg : NS.filter (fun x => decide (bIx 64 (hI h x 0) ≠ ix)) = NS.filter (fun x => !decide (bIx 64 (hI h x 0) = ix)) := by
      congr 1
      funext x
      simp
    rw [gg]
    omega
end TCL
