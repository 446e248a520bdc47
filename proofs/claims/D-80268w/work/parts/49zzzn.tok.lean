/-! COMPONENT, 11: isKey, isWord, need, want, name *-/
/-- the reader's tokens in a view -/
def PT (v : vT) (rd tp wr : Nat) (S : tSt) : Prop := TR v rd tp S ∧ SI S ∧ TK S ∧ CS v ∧ RW v rd wr
/-- what looking at tokens may change -/
def Xq (rd wr : Nat) (a k : Nat) : Prop := (a = rd ∧ (3 ≤ k ∧ k ≤ 6 ∨ k = 14)) ∨ (a = wr ∧ k = 6)
/-- thrown at p -/
def Wg (rd wr n s : Nat) (v v' : vT) (p : Int) : Prop := Fw (Xq rd wr) v v' ∧ hI v'.1 wr 6 = iI p ∧ hN v'.1 ≤ hN v.1 + n ∧ hS v.1 ≤ hS v'.1 ∧ hS v'.1 ≤ hS v.1 + s
/-- a name that was read -/
def NA (v : vT) (rd : Nat) (S : tSt) (a : Nat) : Prop := hK v.1 a = 10 ∧ wN (vTx v a) = S 53 0 ∧ okK (vTx v a) ∧ hI v.1 rd 14 = iI (S 54 0)
section TOS
variable {r rd tp wr a b k : Nat} {h : am_H} {v v' : vT} {p x : Int} {S : tSt} {X : Nat → Nat → Prop} {Q : am_O → am_H → Prop}
theorem TW_fw (f : Fw X v v') (t : TW v rd x) (kr : hK v.1 rd = 2) (h1 : ¬ X rd 5) (h3 : ∀ a, X a 99 → hK v.1 a ≠ 10) : TW v' rd x := by
  have e := (f.ff (hK_lt kr (by decide)) h1).2.2
  rcases t with ⟨t1, t2⟩ | ⟨t1, a, t2, t3, t4, t5⟩
  · exact Or.inl ⟨t1, by rw [e]; exact t2⟩
  · have tx : vTx v' a = vTx v a := (f.cc (hK_lt t3 (by decide)) (fun z => h3 a z t3)).2.2.2
    exact Or.inr ⟨t1, a, by rw [e]; exact t2, f.kk t3 (by decide), by rw [tx]; exact t4, by rw [tx]; exact t5⟩
theorem PT_fw (f : Fw X v v') (t : PT v rd tp wr S) (h1 : ∀ k, k ≤ 6 → ¬ X rd k) (h2 : ∀ k, ¬ X tp k) (h3 : ∀ a, X a 99 → hK v.1 a ≠ 10 ∧ hK v.1 a ≠ 11) : PT v' rd tp wr S := by
  obtain ⟨⟨x1, x2, x3, x4, x5⟩, t2, t3, t4, ⟨w1, w2, w3⟩⟩ := t
  have lr := hK_lt w1 (by decide)
  refine ⟨⟨TRr_fw f x1 (h1 1 (by decide)) (h1 2 (by decide)) h2, ?_, ?_, ?_, TW_fw f x5 w1 (h1 5 (by decide)) (fun a z => (h3 a z).1)⟩, t2, t3, CS_fw f t4 (fun a z => (h3 a z).2), ⟨f.kk w1 (by decide), ?_, f.kk w3 (by decide)⟩⟩
  · rw [(f.ff lr (h1 3 (by decide))).1]; exact x2
  · rw [(f.ff lr (h1 4 (by decide))).1]; exact x3
  · rw [(f.ff lr (h1 6 (by decide))).1]; exact x4
  · rw [(f.ff lr (h1 0 (by decide))).2.2]; exact w2
theorem PT_0 (f : Fw (fun _ _ => False) v v') (t : PT v rd tp wr S) : PT v' rd tp wr S := PT_fw f t (fun _ _ z => z) (fun _ z => z) (fun _ z => z.elim)
theorem t_next (c : CR h v) (t : PT v rd tp wr S)
    (q1 : tAdv S 51 0 ≠ -2 → ∀ h' v', CR h' v' → Fw (Xq rd wr) v v' → PT v' rd tp wr (tAdv S) → (hN v'.1 : Int) ≤ hN v.1 + 20 * (tAdv S 47 0 - S 47 0) → hS v.1 ≤ hS v'.1 → (hS v'.1 : Int) ≤ hS v.1 + 200 * (tAdv S 47 0 - S 47 0) → (∀ k, k = 14 → hI v'.1 rd k = hI v.1 rd k) → Q (Sum.inl none) h')
    (q2 : tAdv S 51 0 = -2 → ∀ h' v', CR h' v' → Wg rd wr 0 0 v v' (tAdv S 49 0) → Q (Sum.inr wr) h') : Cl r 80 [vR (some rd)] h Q := by
  obtain ⟨⟨x1, x2, x3, x4, x5⟩, t2, t3, t4, w⟩ := t
  refine c_next c x1 x2 t2.1 t4 w (fun z h' v' c' f' t' b1 b2 b3 => ?_) (fun z h' v' c' f' e' b1 b2 => ?_)
  · have lr := hK_lt w.1 (by decide)
    refine q1 z h' v' c' (f'.mono (fun a k z => Or.inl ⟨z.1, Or.inl z.2⟩)) ⟨t', SI_adv t2, TK_adv t2.1, CS_fw f' t4 (fun a z => by have := z.2.2; omega), f'.kk w.1 (by decide), ?_, f'.kk w.2.2 (by decide)⟩ b1 b2 b3 ?_
    · rw [(f'.ff lr (fun z => by have := z.2.1; omega)).2.2]
      exact w.2.1
    · intro k hk
      rw [(f'.ff lr (fun z => by have := z.2.2; omega)).1]
  · exact q2 z h' v' c' ⟨f'.mono (fun a k z => z.elim (fun z => Or.inl ⟨z.1, Or.inl z.2⟩) Or.inr), e', by omega, by omega, by omega⟩
theorem t_isWord (c : CR h v) (t : PT v rd tp wr S) (hk : k ≤ 26) (lk : lts (cT k)) (nk : cT k ≠ []) : Cl r 81 [vR (some rd), vR (some (hE v.1 k))] h Q ↔ Q (Sum.inl (some (vI (bI (S 50 0 = wN (cT k)))))) h := by
  obtain ⟨⟨x1, x2, x3, x4, x5⟩, t2, t3, t4, w⟩ := t
  have kr := c.kk w.1 (by decide)
  obtain ⟨k1, k2⟩ := t4 k hk
  have kc := c.kk k1 (by decide)
  obtain ⟨bb, rs, _⟩ := c.rs (Or.inr k1)
  rw [k2] at rs
  rw [eX1_isWord, sX1_isWord_0, sX1_isWord_1, sX1_isWord_2 kr, sX1_isWord_5 (by omega) (by omega), c.rr w.1 rfl]
  rcases x5 with ⟨e0, e1⟩ | ⟨e0, a, e1, e2, e3, e4⟩
  · have z : ¬ S 50 0 = wN (cT k) := by
      rw [e0]
      intro z
      exact nk ((wN_0 lk).mp z.symm)
    rw [e1, st_equalsN rs, Kt_v, sX1_isWord_8 rfl]
    unfold bI
    rw [if_neg z]
  · obtain ⟨b2, rs2, _⟩ := c.rs (Or.inl e2)
    rw [e1, st_equals rs rs2, Kt_v]
    have i : cT k = vTx v a ↔ S 50 0 = wN (cT k) := by
      rw [← e3, wN_inj e4.2 lk]
      exact eq_comm
    unfold bI
    by_cases p : S 50 0 = wN (cT k)
    · rw [if_pos p, if_pos (i.mpr p), sX1_isWord_8 rfl]
    · rw [if_neg p, if_neg (fun z => p (i.mp z)), sX1_isWord_8 rfl]
theorem t_need {P : Prop} [Decidable P] (c : CR h v) (t : PT v rd tp wr S) (q1 : P → Q (Sum.inl none) h) (q2 : ¬ P → ∀ h' v', CR h' v' → Wg rd wr 0 0 v v' (S 49 0) → Q (Sum.inr wr) h') : Cl r 83 [vR (some rd), vI (bI P)] h Q := by
  obtain ⟨⟨x1, x2, x3, x4, x5⟩, t2, t3, t4, w⟩ := t
  have kr := c.kk w.1 (by decide)
  rw [eX1_need, sX1_need_0, sX1_need_1, i_0]
  by_cases p : P
  · rw [if_pos (bI_1.mpr p), sX1_need_13]
    exact q1 p
  · rw [if_neg (fun z => p (bI_1.mp z)), sX1_need_4, sX1_need_5, sX1_need_6 kr, c.ii w.1 rfl, x3, sX1_need_9 kr]
    refine c_wrongAt c w (fun c' => ?_)
    rw [Kt_v, sX1_need_12 (by rw [hK_putI]; exact c.kk w.2.2 (by decide))]
    exact q2 p _ _ c' ⟨Fw.refl.pI (Or.inr (Or.inr ⟨rfl, rfl⟩)), by rw [vpI_1, hI_putI, if_pos ⟨rfl, rfl⟩], by show hN v.1 ≤ _; omega, Nat.le_refl _, by show hS v.1 ≤ _; omega⟩
theorem t_isKey (c : CR h v) (t : PT v rd tp wr S)
    (q : ∀ h' v', CR h' v' → Fw (fun _ _ => False) v v' → hN v'.1 ≤ hN v.1 + 4 → hS v.1 ≤ hS v'.1 → hS v'.1 ≤ hS v.1 + 40 → Q (Sum.inl (some (vI (bI (S 50 0 ≠ 0 ∧ tKw (S 50 0) = true))))) h') : Cl r 168 [vR (some rd)] h Q := by
  have t' := t
  obtain ⟨⟨x1, x2, x3, x4, x5⟩, t2, t3, t4, w⟩ := t
  have kr := c.kk w.1 (by decide)
  rw [eX1_isKey, sX1_isKey_0, sX1_isKey_1 kr, c.rr w.1 rfl, sX1_isKey_4]
  rcases x5 with ⟨e0, e1⟩ | ⟨e0, a, e1, e2, e3, e4⟩
  · rw [if_pos e1, sX1_isKey_46, sX1_isKey_47 rfl]
    have := q h v c Fw.refl (by omega) (by omega) (by omega)
    unfold bI at this
    rw [if_neg (fun z => z.1 e0)] at this
    exact this
  · rw [e1, if_neg (by simp), sX1_isKey_7, sX1_isKey_9, sX1_isKey_12, sX1_isKey_13 (by rw [hK_newC, if_pos rfl]; decide) (by rw [hK_newC, if_pos rfl]; decide)]
    have nn := c.hn
    have ee := fun k => c.he (k := k)
    refine v_nSb2 c (fun h1 c1 room1 => ?_)
    have f1 : Fw (fun _ _ => False) v (vsT (vbm (vnw v 16 4) (hN v.1 + 2) (hS v.1 + 4 + 16)) (hN v.1) []) := (Fw.refl.nw.bm (by rw [vnw_1, hN_newC]; omega)).sT (Or.inl (Nat.le_refl _))
    have kb1 : hK (vsT (vbm (vnw v 16 4) (hN v.1 + 2) (hS v.1 + 4 + 16)) (hN v.1) []).1 (hN v.1) = 16 := by
      show hK (bmp (newC v.1 16 4) _ _) _ = 16
      rw [hK_bmp (by rw [hN_newC]; omega), hK_newC, if_pos rfl]
    have tx1 : vTx (vsT (vbm (vnw v 16 4) (hN v.1 + 2) (hS v.1 + 4 + 16)) (hN v.1) []) (hN v.1) = [] := if_pos rfl
    have n1 : hN (vsT (vbm (vnw v 16 4) (hN v.1 + 2) (hS v.1 + 4 + 16)) (hN v.1) []).1 = hN v.1 + 2 := rfl
    have s1 : hS (vsT (vbm (vnw v 16 4) (hN v.1 + 2) (hS v.1 + 4 + 16)) (hN v.1) []).1 = hS v.1 + 20 := rfl
    generalize (vsT (vbm (vnw v 16 4) (hN v.1 + 2) (hS v.1 + 4 + 16)) (hN v.1) []) = v1 at *
    have he1 : ∀ k, hE v1.1 k = hE v.1 k := f1.2.1
    have p1 := PT_0 f1 t'
    have c7 := t4 7 (by omega)
    have c71 := p1.2.2.2.1 7 (by omega)
    have ka1 := f1.kk e2 (by decide)
    have ta1 : vTx v1 a = vTx v a := (f1.cc (hK_lt e2 (by decide)) (fun z => z)).2.2.2
    have la : a ≠ hN v.1 := by have := hK_lt e2 (by decide); omega
    have l7 : hE v.1 7 ≠ hN v.1 := by have := hK_lt c7.1 (by decide); omega
    have l6 : hE v.1 6 ≠ hN v.1 := by have := hK_lt (t4 6 (by omega)).1 (by decide); omega
    rw [he1] at c71
    rw [Kt_0, sX1_isKey_16, c1.he, he1, nn, sX1_isKey_18 (c1.kk kb1 (by decide))]
    refine v_aps (cp := 16) c1 kb1 (Or.inr c71.1) room1 (by rw [tx1, c71.2]; decide) (fun h2 c2 room2 => ?_)
    rw [tx1, c71.2] at c2
    have f2 : Fw (fun _ _ => False) v (vsT (vbm v1 (hN v1.1) (hS v1.1)) (hN v.1) ([] ++ cT 7)) := (f1.bm (Nat.le_refl _)).sT (Or.inl (Nat.le_refl _))
    have kb2 : hK (vsT (vbm v1 (hN v1.1) (hS v1.1)) (hN v.1) ([] ++ cT 7)).1 (hN v.1) = 16 := by
      show hK (bmp v1.1 _ _) _ = 16
      rw [hK_bmp (Nat.le_refl _)]
      exact kb1
    have tx2 : vTx (vsT (vbm v1 (hN v1.1) (hS v1.1)) (hN v.1) ([] ++ cT 7)) (hN v.1) = [32] := if_pos rfl
    have n2 : hN (vsT (vbm v1 (hN v1.1) (hS v1.1)) (hN v.1) ([] ++ cT 7)).1 = hN v1.1 := rfl
    have s2 : hS (vsT (vbm v1 (hN v1.1) (hS v1.1)) (hN v.1) ([] ++ cT 7)).1 = hS v1.1 := rfl
    generalize (vsT (vbm v1 (hN v1.1) (hS v1.1)) (hN v.1) ([] ++ cT 7)) = v2 at *
    have p2 := PT_0 f2 t'
    have ka2 := f2.kk e2 (by decide)
    have ta2 : vTx v2 a = vTx v a := (f2.cc (hK_lt e2 (by decide)) (fun z => z)).2.2.2
    have r52 : hR v2.1 rd 5 = some a := by rw [(f2.ff (hK_lt w.1 (by decide)) (fun z => z)).2.2]; exact e1
    rw [Kt_v, sX1_isKey_21, sX1_isKey_22 (c2.kk p2.2.2.2.2.1 (by decide)), c2.rr p2.2.2.2.2.1 rfl, r52, sX1_isKey_25 (c2.kk kb2 (by decide))]
    refine v_aps (cp := 16) c2 kb2 (Or.inl ka2) room2 (by rw [tx2, ta2]; have := e4.1; simp only [List.length_cons, List.length_nil]; omega) (fun h3 c3 room3 => ?_)
    rw [tx2, ta2] at c3
    have f3 : Fw (fun _ _ => False) v (vsT (vbm v2 (hN v2.1) (hS v2.1)) (hN v.1) ([32] ++ vTx v a)) := (f2.bm (Nat.le_refl _)).sT (Or.inl (Nat.le_refl _))
    have kb3 : hK (vsT (vbm v2 (hN v2.1) (hS v2.1)) (hN v.1) ([32] ++ vTx v a)).1 (hN v.1) = 16 := by
      show hK (bmp v2.1 _ _) _ = 16
      rw [hK_bmp (Nat.le_refl _)]
      exact kb2
    have tx3 : vTx (vsT (vbm v2 (hN v2.1) (hS v2.1)) (hN v.1) ([32] ++ vTx v a)) (hN v.1) = [32] ++ vTx v a := if_pos rfl
    have n3 : hN (vsT (vbm v2 (hN v2.1) (hS v2.1)) (hN v.1) ([32] ++ vTx v a)).1 = hN v2.1 := rfl
    have s3 : hS (vsT (vbm v2 (hN v2.1) (hS v2.1)) (hN v.1) ([32] ++ vTx v a)).1 = hS v2.1 := rfl
    generalize (vsT (vbm v2 (hN v2.1) (hS v2.1)) (hN v.1) ([32] ++ vTx v a)) = v3 at *
    have p3 := PT_0 f3 t'
    have c73 := p3.2.2.2.1 7 (by omega)
    rw [Kt_v, sX1_isKey_28, c3.he, sX1_isKey_30 (c3.kk kb3 (by decide))]
    refine v_aps (cp := 16) c3 kb3 (Or.inr c73.1) room3 (by rw [tx3, c73.2]; have := e4.1; simp only [List.length_append, List.length_cons, List.length_nil, cT]; omega) (fun h4 c4 _ => ?_)
    rw [tx3, c73.2] at c4
    have f4 : Fw (fun _ _ => False) v (vsT (vbm v3 (hN v3.1) (hS v3.1)) (hN v.1) ([32] ++ vTx v a ++ cT 7)) := (f3.bm (Nat.le_refl _)).sT (Or.inl (Nat.le_refl _))
    have kb4 : hK (vsT (vbm v3 (hN v3.1) (hS v3.1)) (hN v.1) ([32] ++ vTx v a ++ cT 7)).1 (hN v.1) = 16 := by
      show hK (bmp v3.1 _ _) _ = 16
      rw [hK_bmp (Nat.le_refl _)]
      exact kb3
    have tx4 : vTx (vsT (vbm v3 (hN v3.1) (hS v3.1)) (hN v.1) ([32] ++ vTx v a ++ cT 7)) (hN v.1) = 32 :: (vTx v a ++ [32]) := if_pos rfl
    have n4 : hN (vsT (vbm v3 (hN v3.1) (hS v3.1)) (hN v.1) ([32] ++ vTx v a ++ cT 7)).1 = hN v3.1 := rfl
    have s4 : hS (vsT (vbm v3 (hN v3.1) (hS v3.1)) (hN v.1) ([32] ++ vTx v a ++ cT 7)).1 = hS v3.1 := rfl
    generalize (vsT (vbm v3 (hN v3.1) (hS v3.1)) (hN v.1) ([32] ++ vTx v a ++ cT 7)) = v4 at *
    rw [Kt_v, sX1_isKey_33 (c4.kk kb4 (by decide))]
    have l10 : (32 :: (vTx v a ++ [32])).length = (vTx v a).length + 2 := by simp
    have := e4.1
    refine v_toS c4 kb4 (by rw [tx4, l10]; omega) (fun h5 c5 => ?_)
    rw [tx4, l10] at c5
    have f5 : Fw (fun _ _ => False) v (vsT (vbm (vnw v4 10 4) (hN v4.1 + 2) (hS v4.1 + 4 + ((vTx v a).length + 2))) (hN v4.1) (32 :: (vTx v a ++ [32]))) := (f4.nw.bm (by rw [vnw_1, hN_newC]; omega)).sT (Or.inl (by omega))
    have kb5 : hK (vsT (vbm (vnw v4 10 4) (hN v4.1 + 2) (hS v4.1 + 4 + ((vTx v a).length + 2))) (hN v4.1) (32 :: (vTx v a ++ [32]))).1 (hN v4.1) = 10 := by
      show hK (bmp (newC v4.1 10 4) _ _) _ = 10
      rw [hK_bmp (by rw [hN_newC]; omega), hK_newC, if_pos rfl]
    have tx5 : vTx (vsT (vbm (vnw v4 10 4) (hN v4.1 + 2) (hS v4.1 + 4 + ((vTx v a).length + 2))) (hN v4.1) (32 :: (vTx v a ++ [32]))) (hN v4.1) = 32 :: (vTx v a ++ [32]) := if_pos rfl
    have n5 : hN (vsT (vbm (vnw v4 10 4) (hN v4.1 + 2) (hS v4.1 + 4 + ((vTx v a).length + 2))) (hN v4.1) (32 :: (vTx v a ++ [32]))).1 = hN v4.1 + 2 := rfl
    have s5 : hS (vsT (vbm (vnw v4 10 4) (hN v4.1 + 2) (hS v4.1 + 4 + ((vTx v a).length + 2))) (hN v4.1) (32 :: (vTx v a ++ [32]))).1 = hS v4.1 + 4 + ((vTx v a).length + 2) := rfl
    generalize (vsT (vbm (vnw v4 10 4) (hN v4.1 + 2) (hS v4.1 + 4 + ((vTx v a).length + 2))) (hN v4.1) (32 :: (vTx v a ++ [32]))) = v5 at *
    have p5 := PT_0 f5 t'
    obtain ⟨k61, k62⟩ := p5.2.2.2.1 6 (by omega)
    rw [f5.2.1] at k61 k62
    have k6h := c5.kk k61 (by decide)
    obtain ⟨b6, rs6, _⟩ := c5.rs (Or.inr k61)
    obtain ⟨b7, rs7, _⟩ := c5.rs (Or.inl kb5)
    rw [k62] at rs6
    rw [tx5] at rs7
    have l105 : (cT 6).length = 105 := rfl
    have ne : vTx v a ≠ [] := fun z => e0 (by rw [← e3, z]; rfl)
    rw [Kt_v, ee, sX1_isKey_36 (by omega) (by omega), st_contains rs6 rs7 (by rw [l10]; omega) (by rw [l10, l105]; omega), Kt_v, sX1_isKey_39]
    have ky := key_iff e4.2 ne e4.1
    rw [e3] at ky
    have qq := q h5 v5 c5 f5 (by omega) (by omega) (by omega)
    unfold bI at qq
    by_cases z : tKw (S 50 0) = true
    · rw [if_pos (ky.mpr z), if_neg (by decide), sX1_isKey_42, sX1_isKey_43, sX1_isKey_47 rfl]
      rw [if_pos ⟨e0, z⟩] at qq
      exact qq
    · rw [if_neg (fun y => z (ky.mp y)), if_pos rfl, sX1_isKey_46, sX1_isKey_47 rfl]
      rw [if_neg (fun y => z y.2)] at qq
      exact qq
end TOS
