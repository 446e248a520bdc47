/-! COMPONENT, 127: Reader.read, the end (pc 134-146) *-/
/-- a unit that is judged: c what can be thrown, l who can be left -/
def JU (R : Nat → Nat) (A : Nat → Int → Nat) (T : Nat → Nat) (w p0 : Int) (v : vT) (U : tSt) (c l : Int → Int) : Prop := GX R A T w p0 v U ∧ ML v (R 9) (insA [] (mAll U w c l)) ∧ JD A w U c l v (fun _ => True)
section RDE
variable {R : Nat → Nat} {A : Nat → Int → Nat} {T : Nat → Nat} {w p0 : Int} {S U : tSt} {c l g : Int → Int} {v : vT} {r : Nat} {h : am_H} {Q : am_O → am_H → Prop} {l1 l2 : Option am_V}
theorem TI_LKS (ti : TI R A T w p0 v S U) (hp : p0 ≤ 2001) : ∃ L, LKS R A T w p0 v U (fun _ => none) (fun _ => []) (fun _ => none) L ∧ L.Perm (mPar U w) := by
  obtain ⟨⟨g1, g2, g3, g4, g5, g6, g7, ⟨L, g8, g9⟩, ga, gb, gc, gd, ge, gf, gg⟩, rk, kl, mt, px⟩ := ti
  refine ⟨L, ⟨⟨⟨rk, g2.2.2.2.2.2, g6.1⟩, ⟨g2.2.2.2.1, g3, kl, hp⟩, mt, ⟨g5, ?_, ?_, ?_, ?_⟩, fun s hs => ⟨ga s hs, gb s hs⟩, gc, gd, ge, gf⟩, g6, g8, g2⟩, g9⟩
  · exact g6.2.2.2.2.2.2.1.1
  · exact g6.2.2.2.2.2.2.1.2.1
  · exact g6.2.2.2.2.2.2.2.1.1
  · obtain ⟨⟨_, k9, _⟩, _⟩ := g8
    exact k9.1
theorem root_ex (j : JP w g U c l) : ∀ (n : Nat) (b : Int), Ab w U b → g b ≤ n → mU w U (U 9 w) b := by
  have pw := j.pw
  intro n
  induction n with
  | zero => intro b hb h; have := j.1.2.2.2.2 b hb; omega
  | succ n ih =>
    intro b hb h
    by_cases z : U 41 b = 0
    · obtain ⟨a1, a2, a3⟩ := (j.1.1 b hb).1 z
      refine ⟨U 43 b, a1, a2, ?_, ?_⟩
      · rw [a3]; have := hb.1; have := j.2.1.2.2.2.1; omega
      · rw [a3]; exact anc_rf
    · have o := par_ab pw hb z
      have gp := (j.1.2.2.2.2 b hb).2.2 z
      obtain ⟨m, m0, m1, m2, m3⟩ := ih _ o.2 (by omega)
      exact ⟨m, m0, m1, m2, anc_tr ⟨1, z, rfl⟩ m3⟩
theorem rd_end (j : JP w g U c l) (hr : 8 ≤ r) (cr : CR h v) (ti : TI R A T w p0 v S U) (hp : p0 ≤ 2001) (hl : (mPar U w).length ≤ 2600) (hl2 : (mPar U w ++ mLk U w).length ≤ 3400)
    (q : ∀ h' v', CR h' v' → JU R A T w p0 v' U c l → RM (R 9) v v' (3000 + 2 * ((mAll U w c l).length : Nat)) (30000 + 3 * ((mAll U w c l).length : Nat)) → Fw (XLk v) v v' → Q (Sum.inl (some (vR (some (R 3))))) h') :
    Rn (r + 1) 33 134 [some (vR (some (R 0))), l1, l2] [] h Q := by
  have pw := j.pw
  obtain ⟨L, lks, lp⟩ := TI_LKS ti hp
  have ll := lp.length_eq
  have qv := j.2.1.2.1
  have k0 := lks.2.2.2.1
  rw [sX1_read_134, sX1_read_135 (cr.kk k0 (by decide))]
  refine c_link cr j.2.1.1 j.2.1.2.2.2.1 qv lks (by omega) (fun h1 v1 c1 lk1 rm1 fw1 => ?_)
  obtain ⟨gu1, gl1, ml1, ru1⟩ := lk1
  rw [Kt_0, sX1_read_138, sX1_read_139 (c1.kk ru1.1 (by decide)), eX1_judge, sX1_judge_0, sX1_judge_1]
  have l3 : (L ++ mLk U w).length ≤ 3400 := by
    rw [List.length_append] at hl2 ⊢
    omega
  have sj0 : SJ R A T w p0 U c l (L ++ mLk U w ++ tCat (mJM U w c) 0 0) v1 [] [] := by
    refine ⟨gu1, ⟨[], ?_, List.Perm.refl _⟩, ⟨by simp, fun x hx => by simp at hx⟩, ?_, Nat.zero_le _⟩
    · show ML v1 (R 9) (insA [] (L ++ mLk U w ++ [] ++ []))
      rw [List.append_nil, List.append_nil]
      exact ml1
    · show (L ++ mLk U w ++ []).length ≤ 3800
      rw [List.append_nil]
      omega
  refine rj_loop (v0 := v1) (L0 := L ++ mLk U w) j hr l3 (fun h2 v2 Nd c2 ri2 jn2 => ?_) (U 9 w).toNat 0 h1 v1 [] _ _ _ (by omega) c1 ⟨sj0, ⟨fun b _ y => ?_, fun x _ y => ?_⟩, ?_, Fw.refl, ⟨ru1.1, ru1.2.1⟩⟩ ⟨by simp, fun x => ?_⟩
  · obtain ⟨sj2, jd2, rm2, fw2, r02⟩ := ri2
    rw [Kt_0, sX1_read_142, sX1_read_143 (c2.kk r02.1 (by decide)), c2.rr r02.1 rfl, r02.2, sX1_read_146]
    have all : ∀ b, Ab w U b → mU w U (U 9 w) b := fun b hb => root_ex j 8 b hb (j.1.2.2.2.2 b hb).2.1
    have ndp : Nd.Perm (allS U w) := by
      have e : allS U w = stL U w (fun _ => true) := by
        unfold stL allS
        rw [List.filter_eq_self.mpr (fun _ _ => rfl)]
      rw [e]
      refine (List.perm_ext_iff_of_nodup jn2.1 stL_nodup).mpr (fun x => ?_)
      rw [jn2.2 x, stL_in]
      constructor
      · rintro ⟨a, _⟩; exact ⟨a, rfl⟩
      · rintro ⟨a, _⟩; exact ⟨a, all _ (pw.1 x a)⟩
    obtain ⟨E, e1, e2⟩ := sj2.2.1
    have ep : ((L ++ mLk U w ++ tCat (mJM U w c) (U 9 w).toNat 0) ++ E).Perm (mAll U w c l) := by
      refine List.Perm.trans ?_ mAll_p.symm
      rw [List.append_assoc]
      refine List.Perm.append (List.Perm.append_right _ lp) (List.Perm.append_left _ ?_)
      rw [List.append_nil] at e2
      exact e2.trans (ndp.flatMap_right _)
    have el := ep.length_eq
    rw [List.append_nil] at e2
    have e2l := e2.length_eq
    rw [List.length_append, List.length_append] at el
    refine q h2 v2 c2 ⟨sj2.1, by rw [← insA_perm ep]; exact e1, fun b hb _ => jd2.1 b hb (all b hb), fun x hx _ => jd2.2 x hx (all _ (pw.1 x hx))⟩ ?_ (XLk_tr fw1 fw2)
    rw [List.length_nil] at rm2
    exact (rm1.trans rm2).le (by omega) (by omega)
  · obtain ⟨m, m0, m1, _⟩ := y
    omega
  · obtain ⟨m, m0, m1, _⟩ := y
    omega
  · have z : RM (R 9) v1 v1 0 0 := ⟨Nat.le_refl _, by simp, Nat.le_refl _, by simp, Nat.le_refl _⟩
    exact z.le (by omega) (by omega)
  · constructor
    · intro y; simp at y
    · rintro ⟨_, m, m0, m1, _⟩
      omega
end RDE
