/-! COMPONENT, 16: throwsList *-/
/-- what reading names may change of what was there -/
def Xm (rd wr lx : Nat) (a k : Nat) : Prop := Xq rd wr a k ∨ (a = lx ∧ k = 99)
section TLS
variable {r rd tp wr u mk lx : Nat} {A : Int → Nat} {U : tSt} {w p0 : Int} {Q : am_O → am_H → Prop} {S : tSt} {h : am_H} {v : vT} {L : List tMi}
theorem FL_new {X Y : Nat → Nat → Prop} {v v1 v' : vT} {p n s n1 s1 : Int} (f : Fw Y v v1) (rm : RM lx v v1 n s) (fl : FL rd wr lx X v1 v' p n1 s1) (m : ∀ a k, X a k → hN v.1 ≤ a ∨ Y a k) : FL rd wr lx Y v v' p (n + n1) (s + s1) := by
  obtain ⟨a1, a2, a3, a4⟩ := fl
  exact ⟨f.tr2 a1 m, a2, rm.trans a3, a4⟩
/-- a new list of names -/
theorem RM_0 {v v' : vT} {n s : Nat} (hn : hN v'.1 = hN v.1 + n) (hs : hS v'.1 = hS v.1 + s) (cp : vCp v' lx = vCp v lx) : RM lx v v' n s :=
  ⟨by omega, by omega, by omega, by rw [cp]; omega, by rw [cp]; exact Nat.le_refl _⟩
theorem wc12 : wN (cT 12) = wThrows := rfl
theorem c_throws (c : CR h v) (t : PT v rd tp wr S) (s52 : S 52 0 = -1) (y : RUn v rd u mk lx) (ml : ML v lx L) (hl : L.length ≤ 2750) (km : KMp v mk A U w p0) (pp : p0 ≤ S 47 0)
    (q0 : S 50 0 ≠ wThrows → ∀ h' v', CR h' v' → Fw (fun _ _ => False) v v' → NL v' A (hN v.1) 0 (nK U w []) (nP []) → RM lx v v' 2 5 → Q (Sum.inl (some (vR (some (hN v.1))))) h')
    (q1 : S 50 0 = wThrows → (tLs 44 0 5 S).1 = true → (tLs 44 0 5 S).2.1 51 0 ≠ -2 → ∀ h' v', CR h' v' → Fw (Xm rd wr lx) v v' → PT v' rd tp wr (tLs 44 0 5 S).2.1 →
      NL v' A (hN v.1) (tLs 44 0 5 S).2.2.length (nK U w (tLs 44 0 5 S).2.2) (nP (tLs 44 0 5 S).2.2) → ML v' lx (insA L (mNs U w (tLs 44 0 5 S).2.2)) →
      RM lx v v' (20 * ((tLs 44 0 5 S).2.1 47 0 - S 47 0) + 42) (200 * ((tLs 44 0 5 S).2.1 47 0 - S 47 0) + 405) → Q (Sum.inl (some (vR (some (hN v.1))))) h')
    (q2 : S 50 0 = wThrows → ((tLs 44 0 5 S).1 = true → (tLs 44 0 5 S).2.1 51 0 = -2) → ∀ h' v', CR h' v' → FL rd wr lx (Xm rd wr lx) v v' (fP (tLs 44 0 5 S).1 (tLs 44 0 5 S).2.1) (20 * ((tLs 44 0 5 S).2.1 47 0 - S 47 0) + 42) (200 * ((tLs 44 0 5 S).2.1 47 0 - S 47 0) + 405) → Q (Sum.inr wr) h') :
    Cl (r + 1) 132 [vR (some rd)] h Q := by
  have nn := c.hn
  have kn0 : hK (newC h 4 3) (hN h) = 4 := by rw [hK_newC, if_pos rfl]
  rw [eX1_throwsList, sX1_throwsList_0, sX1_throwsList_3, sX1_throwsList_4, sX1_throwsList_5 (by omega) (by omega), i_2]
  refine v_nL2 (n := 2) c (by decide) (by decide) (fun h1 c1 => ?_)
  have f1 : Fw (fun _ _ => False) v (vsL (vbm (vnw v 4 3) (hN v.1 + 2) (hS v.1 + 3 + 2)) (hN v.1) [] 2) := (Fw.refl.nw.bm (by rw [vnw_1, hN_newC]; omega)).sL (Or.inl (Nat.le_refl _))
  have k1 : hK (vsL (vbm (vnw v 4 3) (hN v.1 + 2) (hS v.1 + 3 + 2)) (hN v.1) [] 2).1 (hN v.1) = 4 := by
    show hK (bmp (newC v.1 4 3) _ _) _ = 4
    rw [hK_bmp (by rw [hN_newC]; omega), hK_newC, if_pos rfl]
  have ls1 : vLs (vsL (vbm (vnw v 4 3) (hN v.1 + 2) (hS v.1 + 3 + 2)) (hN v.1) [] 2) (hN v.1) = [] := if_pos rfl
  have n1 : hN (vsL (vbm (vnw v 4 3) (hN v.1 + 2) (hS v.1 + 3 + 2)) (hN v.1) [] 2).1 = hN v.1 + 2 := rfl
  have s1 : hS (vsL (vbm (vnw v 4 3) (hN v.1 + 2) (hS v.1 + 3 + 2)) (hN v.1) [] 2).1 = hS v.1 + 5 := rfl
  generalize (vsL (vbm (vnw v 4 3) (hN v.1 + 2) (hS v.1 + 3 + 2)) (hN v.1) [] 2) = v1 at *
  have lx4 := ml.1.choose_spec.1.1
  have nlx : hN v.1 ≠ lx := by have := hK_lt lx4 (by decide); omega
  have nmk : mk ≠ hN v.1 := by have := hK_lt km.2.2.1 (by decide); omega
  have t1 := PT_0 f1 t
  have y1 := RUn_fw f1 y (fun z => z) (fun _ _ z => z)
  have ml1 := ML_fw f1 ml (fun z => z) (fun _ _ z => z.elim)
  have km1 := KMp_fw f1 km (fun z => z)
  have rm1 : RM lx v v1 2 5 := RM_0 n1 s1 (f1.cc (hK_lt lx4 (by decide)) (fun z => z)).2.2.1
  have kr1 := c1.kk t1.w0.1 (by decide)
  have nl1 : ∀ kf pf, NL v1 A (hN v.1) 0 kf pf := fun kf pf => ⟨k1, by rw [ls1]; rfl, Int.le_refl _, fun i i0 i1 => by omega⟩
  rw [Kt_0, sX1_throwsList_8, sX1_throwsList_9, sX1_throwsList_10, c1.he, sX1_throwsList_12 kr1, t_isWord c1 t1 (by decide) (by unfold lts cT; decide) (by unfold cT; decide), Kt_v, sX1_throwsList_15, i_0, wc12, nn]
  by_cases e : S 50 0 = wThrows
  · rw [if_neg (fun z => bI_0.mp z e)]
    have sub : ∀ a k, Xs rd wr (hN v.1) lx a k → hN v.1 ≤ a ∨ Xm rd wr lx a k := fun a k z => by
      rcases z with z | ⟨z | z, z2⟩
      · exact Or.inr (Or.inl z)
      · exact Or.inr (Or.inr ⟨z, z2⟩)
      · exact Or.inl (by omega)
    refine c_thrL (l := hN v.1) 5 [] S h1 v1 L none (by decide) rfl c1 t1 s52 y1 ml1 (by omega) nlx km1 pp nmk (nl1 _ _) (fun o1 o2 h' v' c' f' t' n' m' rm' => ?_) (fun o1 h' v' c' fl => ?_)
    · have rm' : RM lx v1 v' (20 * ((tLs 44 0 5 S).2.1 47 0 - S 47 0) + 8 * (5 : Nat)) (200 * ((tLs 44 0 5 S).2.1 47 0 - S 47 0) + 80 * (5 : Nat)) := rm'
      exact q1 e o1 o2 h' v' c' ((f1.mono (fun _ _ z => z.elim)).tr2 f' sub) t' n' m' ((rm1.trans rm').le (by omega) (by omega))
    · have fl : FL rd wr lx (Xs rd wr (hN v.1) lx) v1 v' (fP (tLs 44 0 5 S).1 (tLs 44 0 5 S).2.1) (20 * ((tLs 44 0 5 S).2.1 47 0 - S 47 0) + 8 * (5 : Nat)) (200 * ((tLs 44 0 5 S).2.1 47 0 - S 47 0) + 80 * (5 : Nat)) := fl
      exact q2 e o1 h' v' c' ((FL_new (f1.mono (fun _ _ z => z.elim)) rm1 fl sub).le (by omega) (by omega))
  · rw [if_pos (bI_0.mpr e), sX1_throwsList_78, sX1_throwsList_79]
    exact q0 e h1 v1 c1 f1 (nl1 _ _) rm1
end TLS
