/-! COMPONENT, 78: try, from head to head *-/
section TRL
variable {r a m5 m6 m7 m9 : Nat} {h : am_H} {R : Nat → Nat} {A Ah : Nat → Int → Nat} {T Th : Nat → Nat} {w s b0 p0 c d n m : Int} {v v' vh : vT} {S X Uh U : tSt} {o : Option Nat} {N : List (Int × Int)} {Q : am_O → am_H → Prop} {l2 l4 l5 l6 l7 l8 l9 l10 l11 l12 : Option am_V}
theorem MD_try (md : MD R A T w s p0 v S U o) (cx : CX R w b0 Ah Th vh Uh A T v U c d) (hs : s = w * 120 + (U 19 w - 1)) (n1 : 1 ≤ U 19 w) (hsh : 120 * w + Uh 19 w ≤ s) (n0 : 0 ≤ Uh 19 w) (u20 : U 20 s = 0) (u33 : U 33 s = 0) (f : Fw (fun b k => b = R 12 ∧ k = 99) v v') (l12 : vLs v' (R 12) = vLs v (R 12) ++ [some (A 2 s)]) (rm : RM (R 9) v v' n m) : MD R A T w s p0 v' S (up U 20 s 9) o ∧ CX R w b0 Ah Th vh Uh A T v' (up U 20 s 9) (c + n) (d + m) := by
  obtain ⟨g, ⟨hP, pr, qv, w0⟩, q1, ar, hsA, e22, ch⟩ := md
  have hfx : FX w s U (up U 20 s 9) := FX_up (FU.refl.fx (Int.le_refl _)) (by decide) (by decide) (by decide) (Or.inl ⟨rfl, Or.inl rfl⟩)
  have e22' : up U 20 s 9 22 = U 22 := up_n (by decide)
  have s0 : 0 ≤ s := by have := hsA.1; omega
  have k12 := g.2.2.2.2.2.1.2.2.2.1.2.1
  have t12 : T (R 12) = 3 := g.2.2.2.2.2.1.2.2.2.2.2.2.1.2.2.2.2.1
  refine ⟨⟨GI_try g pr qv w0 hs n1 u20 u33 f l12, ⟨PI_up hP rfl, PR_20 pr (by omega), QV_x qv rfl rfl (by omega) (by omega), w0⟩, q1, ?_, As_of hsA (up_n (by decide)), by rw [e22']; exact e22, CH_fx w0.1 hfx hP pr (own_ne hP pr ch q1.1 e22) q1.1 rfl (fun _ _ => rfl) ch⟩, ?_⟩
  · rw [e22']
    exact AR_fx hfx pr.1 qv _ _ _ (pr.1.1 s hsA).1 (AR_fw f (fun b k y => by rw [y.1, k12]; exact ⟨by decide, fun q => absurd q (by decide), fun _ => by decide⟩) _ _ _ ar)
  · obtain ⟨x1, x2, x3, x4, x5⟩ := cx.fx hfx (by rw [up_n (by decide)]) hsh s0 w0.1 n0
    refine ⟨x1.fw f (fun b k y => ?_) rm, x2, x3, x4, x5⟩
    by_cases q : b < hN vh.1
    · exact Or.inr (Or.inr (Or.inr (Or.inl ⟨y.2, by rw [← x3 b q, y.1]; exact Or.inr t12⟩)))
    · exact Or.inl (by omega)
theorem QV_nw {what own num i : Int} (qv : QV U) (q2 : QV (tOpn w what own num 27 i X (nW 30 31 32 s N U)).2) : QV (nW 30 31 32 s N U) := by
  intro f j
  by_cases g : f = 30 ∨ f = 31 ∨ f = 32
  · have y := q2 f j
    unfold tOpn at y
    rw [show (tOS w X (nW 30 31 32 s N U), up (tOU w what own num X (nW 30 31 32 s N U)) 27 i (tOR w X (nW 30 31 32 s N U))).2 = up (tOU w what own num X (nW 30 31 32 s N U)) 27 i (tOR w X (nW 30 31 32 s N U)) from rfl, up_n (by omega), tOU_o (Or.inl (by omega))] at y
    exact y
  · rw [nW_f (by omega) (by omega) (by omega)]
    exact qv f j
theorem MD_nam (md : MD R A T w s p0 v S U o) (cx : CX R w b0 Ah Th vh Uh A T v U c d) (hsh : 120 * w + Uh 19 w ≤ s) (n0 : 0 ≤ Uh 19 w) (u20 : U 20 s = 9) (u30 : U 30 s = 0) (hNl : N.length ≤ 4) (qn : QV (nW 30 31 32 s N U)) : MD R A T w s p0 v S (nW 30 31 32 s N U) o ∧ CX R w b0 Ah Th vh Uh A T v (nW 30 31 32 s N U) c d := by
  obtain ⟨g, ⟨hP, pr, qv, w0⟩, q1, ar, hsA, e22, ch⟩ := md
  have hfx : FX w s U (nW 30 31 32 s N U) := nW_fx hNl u30
  have e22' : nW 30 31 32 s N U 22 = U 22 := nW_f (by decide) (by decide) (by decide)
  have s0 : 0 ≤ s := by have := hsA.1; omega
  refine ⟨⟨GI_nam g pr qv w0 hsA u20 u30 hNl, ⟨PI_nW hP hNl u30, PR_E pr (fun g hg => nW_f (pqF_ne hg rfl) (pqF_ne hg rfl) (pqF_ne hg rfl)), qn, w0⟩, q1, ?_, As_of hsA (nW_f (by decide) (by decide) (by decide)), by rw [e22']; exact e22, CH_fx w0.1 hfx hP pr (own_ne hP pr ch q1.1 e22) q1.1 rfl (fun _ _ => rfl) ch⟩, cx.fx hfx (by rw [nW_f (by decide) (by decide) (by decide)]) hsh s0 w0.1 n0⟩
  rw [e22']
  exact AR_fx hfx pr.1 qv _ _ _ (pr.1.1 s hsA).1 ar
/-- a try from its second token on -/
def tTry (w s : Int) (S U : tSt) : tSt × tSt := if S 51 0 = 40 then (if (tNam s 41 5 S U).1 = true then tOpn w 5 s 0 27 s (tNam s 41 5 S U).2.1 (tNam s 41 5 S U).2.2 else (tNam s 41 5 S U).2) else tOpn w 5 s 0 27 s S U
theorem tTry_n (u30 : U 30 s = 0) (h : S 51 0 = 40) : tTry w s S U = if (tLs 44 0 5 S).1 = true then (if (tLs 44 0 5 S).2.1 51 0 = 41 then tOpn w 5 s 0 27 s (tAdv (tLs 44 0 5 S).2.1) (nW 30 31 32 s (tLs 44 0 5 S).2.2 U) else (tTake (tLs 44 0 5 S).2.1 41, nW 30 31 32 s (tLs 44 0 5 S).2.2 U)) else ((tLs 44 0 5 S).2.1, nW 30 31 32 s (tLs 44 0 5 S).2.2 U) := by
  unfold tTry
  rw [if_pos h, tNam_ls (x := s) 41 5 0 S U u30]
  generalize tLs 44 0 5 S = L
  by_cases ok : L.1 = true
  · rw [if_pos ok, if_pos ok]
    by_cases y : L.2.1 51 0 = 41
    · rw [if_pos (decide_eq_true y), if_pos y]
      show tOpn w 5 s 0 27 s (tTake L.2.1 41) _ = _
      unfold tTake
      rw [if_pos y]
    · rw [if_neg (fun q => y (of_decide_eq_true q)), if_neg y]
  · rw [if_neg ok, if_neg ok, if_neg (fun q => Bool.noConfusion q)]
end TRL
