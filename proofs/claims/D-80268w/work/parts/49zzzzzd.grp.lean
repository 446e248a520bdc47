/-! COMPONENT, 45: a group *-/
section GRP
variable {r a : Nat} {h : am_H} {R : Nat → Nat} {A Ah : Nat → Int → Nat} {T Th : Nat → Nat} {w s b0 p0 c d : Int} {v vh : vT} {S Uh U : tSt} {o : Option Nat} {Q : am_O → am_H → Prop} {l2 l4 l5 l6 l7 l8 l9 l10 l11 l12 : Option am_V}
/-- one field of the statement in hand is set, and it is at its end -/
theorem GI_endR {A' : Nat → Int → Nat} {T' : Nat → Nat} {v' : vT} {S' U3 : tSt} {k : Nat} {z : Option Nat} (G : GI R A' T' w s p0 v' S' U3) (hsA : As w U3 s) (pr : PR w U3) (qv : QV U3) (w0 : 0 ≤ w ∧ w ≤ 1) (hk : 5 ≤ k) (k7 : k = 7 → U3 20 s ≠ 5 ∧ U3 20 s ≠ 6) (k99 : k ≠ 99) (u33 : U3 33 s = 0)
    (fs : FS (vpR v' (A' 2 s) k z) A' T' U3 w (fun _ => none) (fun _ => []) s) : GI R A' T' w (-1) p0 (vpR v' (A' 2 s) k z) S' U3 := by
  have es := (G.2.2.2.2.2.2.2.2.1 s hsA).1
  have f : Fw (fun c j => c = A' 2 s ∧ j = k) v' (vpR v' (A' 2 s) k z) := Fw.refl.pR (Or.inr ⟨rfl, rfl⟩)
  have k0 := G.1.w0.1
  have n0 : A' 2 s ≠ R 0 := fun e => by rw [e, k0] at es; exact absurd es.1 (by decide)
  refine GI_end (z := A' 2 s) G hsA pr qv w0 f (fun c j y _ => Or.inr (Or.inr (Or.inr (Or.inr ⟨y.1, by rw [y.1]; exact es⟩)))) rfl (fun j y => ⟨by rw [y.2]; exact hk, fun e => k7 (by rw [← y.2]; exact e)⟩) (fun j _ y => n0 y.1.symm) (fun c y => absurd y.2.symm k99) (fun c j y hj => by have := y.2; omega) (PT_fw f G.1 (fun j _ y => n0 y.1.symm) (fun j y => ?_) (fun c y => absurd y.2.symm k99)) (Int.le_refl _) rfl rfl (TG_fw f G.2.2.2.2.1) (fun _ _ _ => rfl) fs (fun c e hr => ?_)
  · have := G.1.w0.2.2
    rw [y.1] at this
    rw [this] at es
    exact absurd es.2 (by decide)
  · rw [u33] at hr
    omega
theorem AR_pR {A' : Nat → Int → Nat} {v' : vT} {U3 : tSt} {e k : Nat} {z : Option Nat} {d' : Nat} {b' : Int} {o' : Option Nat} (ke : 30 ≤ hK v'.1 e ∧ hK v'.1 e ≤ 38) (k99 : k ≠ 99) (x : AR v' A' U3 d' b' o') : AR (vpR v' e k z) A' U3 d' b' o' :=
  AR_fw (X := fun c j => c = e ∧ j = k) (Fw.refl.pR (Or.inr ⟨rfl, rfl⟩)) (fun c j y => ⟨by rw [y.1]; omega, fun q => by rw [y.1] at q; omega, fun q => absurd (y.2.symm.trans q) k99⟩) _ _ _ x
theorem CX.pR {b0 : Int} {vh : vT} {Uh : tSt} {A' : Nat → Int → Nat} {T' : Nat → Nat} {v' : vT} {U3 : tSt} {e k : Nat} {z : Option Nat} (x : CX R w b0 Ah Th vh Uh A' T' v' U3 c d) (he : hN vh.1 ≤ e) : CX R w b0 Ah Th vh Uh A' T' (vpR v' e k z) U3 c d :=
  ⟨⟨x.1.1.pR (Or.inl he), x.1.2⟩, x.2⟩
theorem st_group (blc : BLC r R w p0) (hd : HD R Ah Th w p0 vh S Uh o) (cr : CR h v) (md : MD R A T w s p0 v S U o) (cx : CX R w (S 56 (S 55 0 - 1)) Ah Th vh Uh A T v U 20 340) (hs : s = w * 120 + Uh 19 w) (e19 : U 19 w = Uh 19 w + 1) (u20 : U 20 s = 0) (u33 : U 33 s = 0) (u30 : U 30 s = 0) (no : ∀ c, Ab w U c → U 42 c ≠ s) (ea : A 2 s = a)
    (na : hN vh.1 ≤ a) (ka : hK v.1 a = 38) (hr : 9 - S 55 0 ≤ r) (st : tStep w S Uh = tOpn w 9 s 0 27 s S (up U 20 s 11))
    (q1 : ∀ h' v' A' T' S' U', CR h' v' → SX R w 20 300 Ah Th vh S Uh A' T' v' S' U' → HD R A' T' w p0 v' S' U' o → tGo w (S, Uh) (S', U') → S 49 0 < S' 49 0 → S' 55 0 = S 55 0 → (∀ i, i < S 55 0 → S' 56 i = S 56 i) → NWs w Uh U' (S 56 (S 55 0 - 1)) → Q (Sum.inl (some (vR (some (A' 2 (w * 120 + Uh 19 w)))))) h')
    (q2 : ∀ h' v' p, CR h' v' → WX R Th vh v' S (20 - 2 * S 55 0) p → doom w (S, Uh) p → Q (Sum.inr (R 2)) h') :
    Rn (r + 1) 175 133 [some (vR (some (R 0))), some (vR o), l2, some (vR (some a)), l4, l5, l6, l7, l8, l9, l10, l11, l12] [] h Q := by
  have hd' := hd
  obtain ⟨gh, ⟨hPh, prh, qvh, w0⟩, ⟨d1, s52⟩, arh⟩ := hd
  obtain ⟨g, ⟨hP, pr, qv, _⟩, _, ar, hsA, e22, ch⟩ := md
  have kr := cr.kk g.1.w0.1 (by decide)
  have kah := cr.kk ka (by decide)
  have n19 := hPh.2.2.2.2.2.1
  have hfx : FX w s U (up U 20 s 11) := FX_up (FU.refl.fx (Int.le_refl _)) (by decide) (by decide) (by decide) (Or.inl ⟨rfl, Or.inl rfl⟩)
  have e19' : up U 20 s 11 19 w = U 19 w := by rw [up_n (by decide)]
  have e40' : up U 20 s 11 40 = U 40 := up_n (by decide)
  have e22' : up U 20 s 11 22 = U 22 := up_n (by decide)
  have G := GI_sort (k := 11) g pr qv w0 hsA u20 (by omega) no u33 u30 (fun z => by omega)
  have hP' : PI w S (up U 20 s 11) := PI_up hP rfl
  have pr' : PR w (up U 20 s 11) := PR_20 pr (by omega)
  have qv' : QV (up U 20 s 11) := QV_x qv rfl rfl (by omega) (by omega)
  have hsA' : As w (up U 20 s 11) s := As_of hsA (up_n (by decide))
  have ar' := AR_fx hfx pr.1 qv _ _ _ (pr.1.1 s hsA).1 ar
  have cx' := cx.fx hfx e19' (by omega) (by omega) w0.1 n19.1
  rw [← e22'] at ar'
  have dm : ∀ p, doom w (tOpn w 9 s 0 27 s S (up U 20 s 11)) p → doom w (S, Uh) p := fun p y => doom_step s52 (Or.inl (by omega)) (by rw [st]; exact y)
  rw [sX1_statement_133, sX1_statement_134 (by rw [kah]; decide), sX1_statement_137, if_neg (by decide), sX1_statement_140, sX1_statement_141 (by rw [kah]; decide), sX1_statement_144, sX1_statement_146, sX1_statement_148, sX1_statement_149, sX1_statement_150 kr]
  refine own_block (what := 9) (num := 0) (f := 27) (i := s) (Sh := S) blc cr G hP' pr' qv' w0 hsA' (by rw [e22']; exact e22) ⟨by decide, fun z => absurd z (by decide)⟩ (CH_fx w0.1 hfx hP pr (own_ne hP pr ch d1 e22) d1 rfl (fun _ _ => rfl) ch) d1 s52 hr cx' (by omega) n19.1 (by omega) (fun p => ?_) (fun p hx => AR_in pr' qv' hsA' w0.1 p (by omega) (by decide) (by decide) hx ar')
    (fun p h' v' A' T' S' U3 c' G3 ⟨P3, R3, Q3⟩ cx3 ae ts mf fu go n51 x52 x55 x56 e48 lt fb ⟨e41, e42⟩ art => ?_) (by omega) (by omega) rfl rfl (fun h' v' p c' wx y => ?_)
  · have y := And.intro (PI_step (w := w) hPh) (And.intro (PR_step hPh w0.1 qvh prh) (QV_step hPh w0 qvh))
    rw [st, tOpn_e p] at y
    exact y
  · obtain ⟨o1, o2, o3, o4, o5, o6⟩ := oU_v (w := w) (what := 9) (own := s) (num := 0) (f := 27) (i := s) (U := up U 20 s 11) p (by decide)
    have hsB : As w (oU w 9 s 0 27 s S (up U 20 s 11)) s := As_of hsA' (oU_o (by decide) (by decide))
    have hs3 : As w U3 s := fu.aS hsB
    have a2 : A' 2 s = a := by rw [(ae.1 s hsA').1]; exact ea
    have ka' := mf.kk ka (by decide)
    have u27 : U3 27 s = w * 1024 + up U 20 s 11 40 w := by rw [fu.fs hsB (by decide) (by decide) (by decide)]; exact o6
    have u20' : U3 20 s = 11 := by rw [fu.fs hsB (by decide) (by decide) (by decide), oU_o (by decide) (by decide), up_s]
    have u33' : U3 33 s = 0 := by rw [fu.fs hsB (by decide) (by decide) (by decide), oU_o (by decide) (by decide), up_n (by decide)]; exact u33
    rw [Kt_v, sX1_statement_153 (c'.kk ka' (by decide)), sX1_statement_156, sX1_statement_157]
    have c2 := CR_pR (k := 5) (z := some (A' 3 (w * 1024 + up U 20 s 11 40 w))) c' ka' rfl
    have k38 : hK (vpR v' (A' 2 s) 5 (some (A' 3 (w * 1024 + up U 20 s 11 40 w)))).1 (A' 2 s) = 38 := by rw [a2]; exact ka'
    have G4 := GI_endR (k := 5) (z := some (A' 3 (w * 1024 + up U 20 s 11 40 w))) G3 hs3 R3 Q3 w0 (by decide) (fun z => absurd z (by decide)) (by decide) u33' (by
      unfold FS
      rw [u20', u27]
      refine ⟨fun z => by omega, fun z => by omega, fun z => by omega, fun z => by omega, fun z => by omega, fun z => by omega, fun z => by omega, fun z => by omega, fun z => by omega, fun _ => ⟨k38, ?_⟩, fun _ => by have := R3.2.1; have := pr'.2.1; omega⟩
      rw [vpR_1, hR_putR, if_pos ⟨rfl, rfl⟩])
    rw [a2] at G4
    have cx4 := cx3.pR (e := a) (k := 5) (z := some (A' 3 (w * 1024 + up U 20 s 11 40 w))) na
    have ab0 : Ab w (up U 20 s 11) (S 56 (S 55 0 - 1)) := by
      rw [← e22, ← e22']
      exact (pr'.1.1 s hsA').1
    have ar4 := AR_pR (e := a) (k := 5) (z := some (A' 3 (w * 1024 + up U 20 s 11 40 w))) (by rw [ka']; decide) (by decide) (art _ _ _ ab0 (by rw [e22', e22] at ar'; exact ar'))
    have sh : tShut w (w * 1024 + up U 20 s 11 40 w) S' U3 = (S', U3) := by
      unfold tShut
      rw [e41, if_neg (by decide), if_neg (by decide), if_neg (by decide), if_neg (by decide), if_neg (by decide)]
    rw [sh] at go
    have fin := st_fin hd' cx4 c2 G4 (by rw [st]; exact go) x52 x55 x56 e48 ar4 (by omega) (by omega) (by omega) q1
    rw [← hs, a2] at fin
    exact fin
  · rw [Kt_x]
    exact q2 h' v' p c' wx (dm p y)
end GRP
