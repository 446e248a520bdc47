/-! COMPONENT, 85: a new method (way, pc 9-95) *-/
section WYN
variable {r rd u lm mm lx nm : Nat} {h : am_H} {v : vT} {x p : Int} {L : List tMi} {Q : am_O → am_H → Prop} {l2 l3 : Option am_V}
/-- the cell of a new method -/
def MC (v : vT) (a nm l : Nat) (n p : Int) : Prop := hK v.1 a = 18 ∧ (hR v.1 a 0 = some nm ∧ hI v.1 a 1 = iI n ∧ hI v.1 a 2 = iI p ∧ hR v.1 a 7 = some l) ∧ (∀ j, j ≠ 0 → j ≠ 7 → hR v.1 a j = none) ∧ (∀ j, j ≠ 1 → j ≠ 2 → hI v.1 a j = 0) ∧ hK v.1 l = 4 ∧ vLs v l = []
theorem MC_fw {X : Nat → Nat → Prop} {v' : vT} {a l : Nat} {n : Int} (f : Fw X v v') (hx : ∀ b k, X b k → b ≠ a ∧ b ≠ l) (m : MC v a nm l n p) : MC v' a nm l n p := by
  obtain ⟨m1, ⟨m2, m3, m4, m5⟩, m6, m7, m8, m9⟩ := m
  have g := fun j => f.ff (k := j) (hK_lt m1 (by decide)) (fun y => (hx _ _ y).1 rfl)
  refine ⟨f.kk m1 (by decide), ⟨by rw [(g 0).2.2]; exact m2, by rw [(g 1).1]; exact m3, by rw [(g 2).1]; exact m4, by rw [(g 7).2.2]; exact m5⟩, fun j h0 h7 => by rw [(g j).2.2]; exact m6 j h0 h7, fun j h1 h2 => by rw [(g j).1]; exact m7 j h1 h2, f.kk m8 (by decide), ?_⟩
  rw [(f.cc (hK_lt m8 (by decide)) (fun y => (hx _ _ y).2 rfl)).1]
  exact m9
theorem wy_reg (c : CR h v) {am : Nat} {b : Int32} (kr : hK v.1 rd = 2) (r7 : hR v.1 rd 7 = some u) (ku : hK v.1 u = 5) (r2 : hR v.1 u 2 = some lm) (kl : hK v.1 lm = 4) (r3 : hR v.1 u 3 = some mm) (km : hK v.1 mm = 6) (ka : hK v.1 am = 18) (tn : TN1 v nm x) (hb : b = if vMp v mm (vTx v nm) = none then 0 else 1) (sm : ∃ L : List (List Int32), L.length ≤ 15 ∧ ∀ s z, vMp v mm s = some z → s ∈ L) (len : (vLs v lm).length ≤ 15)
    (q : ∀ h' v', CR h' v' → Fw (fun b k => (b = lm ∨ b = mm) ∧ k = 99) v v' → vLs v' lm = vLs v lm ++ [some am] → (∀ t, vMp v' mm t = if t = vTx v nm ∧ vMp v mm t = none then some am else vMp v mm t) → hN v'.1 ≤ hN v.1 + 21 → hS v.1 ≤ hS v'.1 → hS v'.1 ≤ hS v.1 + 390 → Rn (r + 1) 84 95 [some (vR (some rd)), some (vR (some nm)), some (vR (some am)), some (vI b)] [] h' Q) :
    Rn (r + 1) 84 66 [some (vR (some rd)), some (vR (some nm)), some (vR (some am)), some (vI b)] [] h Q := by
  rw [sX1_way_66, sX1_way_67 (c.kk kr (by decide)), c.rr kr rfl, r7, sX1_way_70 (c.kk ku (by decide)), c.rr ku rfl, r2, sX1_way_73, sX1_way_74 (c.kk kl (by decide))]
  refine v_add c kl (z := some am) ⟨by rw [ka]; decide, by rw [ka]; decide⟩ (by omega) (fun h3 n' s' c' c3 gw => ?_)
  obtain ⟨w1, w2, w3, w4, w5, w6, w7, w8⟩ := grw_b gw (c.cp kl)
  have f3 : Fw (fun b k => b = lm ∧ k = 99) v (vsL (vbm v n' s') lm (vLs v lm ++ [some am]) c') := (Fw.refl.bm w1).sL (Or.inr ⟨rfl, rfl⟩)
  have ls3 : vLs (vsL (vbm v n' s') lm (vLs v lm ++ [some am]) c') lm = vLs v lm ++ [some am] := by rw [vLs_sL, if_pos rfl]
  have n3 : hN (vsL (vbm v n' s') lm (vLs v lm ++ [some am]) c').1 = n' := rfl
  have s3 : hS (vsL (vbm v n' s') lm (vLs v lm ++ [some am]) c').1 = s' := rfl
  generalize (vsL (vbm v n' s') lm (vLs v lm ++ [some am]) c') = v3 at *
  have F3 : Fw (fun b k => (b = lm ∨ b = mm) ∧ k = 99) v v3 := f3.mono (fun _ _ y => ⟨Or.inl y.1, y.2⟩)
  have nlm : mm ≠ lm := fun e => by rw [e, kl] at km; exact absurd km (by decide)
  have nn : nm ≠ lm := fun e => by have := tn.1; rw [e, kl] at this; exact absurd this (by decide)
  have tx3 : vTx v3 nm = vTx v nm := (f3.cc (hK_lt tn.1 (by decide)) (fun y => nn y.1)).2.2.2
  have mp3 : vMp v3 mm = vMp v mm := (f3.cc (hK_lt km (by decide)) (fun y => nlm y.1)).2.1
  rw [Kt_v, sX1_way_77, sX1_way_78, sX1_way_79, hb]
  rw [hb] at q
  by_cases nw : vMp v mm (vTx v nm) = none
  · rw [if_pos nw] at q ⊢
    have kr3 := f3.kk kr (by decide)
    have ku3 := f3.kk ku (by decide)
    have km3 := f3.kk km (by decide)
    have r73 : hR v3.1 rd 7 = some u := by rw [(f3.ff (k := 7) (hK_lt kr (by decide)) (fun y => absurd y.2 (by decide))).2.2]; exact r7
    have r33 : hR v3.1 u 3 = some mm := by rw [(f3.ff (k := 3) (hK_lt ku (by decide)) (fun y => absurd y.2 (by decide))).2.2]; exact r3
    rw [if_neg (fun y => y rfl), sX1_way_82, sX1_way_83 (c3.kk kr3 (by decide)), c3.rr kr3 rfl, r73, sX1_way_86 (c3.kk ku3 (by decide)), c3.rr ku3 rfl, r33, sX1_way_89, sX1_way_90, sX1_way_91 (c3.kk km3 (by decide))]
    refine v_mput c3 km3 (Or.inl (f3.kk tn.1 (by decide))) (by rw [tx3]; exact tn.2.2) (by rw [tx3, mp3]; exact nw) (by rw [mp3]; exact sm) (fun h5 n5 s5 c5 b1 b2 b3 b4 => ?_)
    have f5 : Fw (fun b k => b = mm ∧ k = 99) v3 (vsM (vbm v3 n5 s5) mm (vTx v3 nm) am) := (Fw.refl.bm b1).sM (Or.inr ⟨rfl, rfl⟩)
    rw [Kt_v, sX1_way_94]
    refine q h5 _ c5 (F3.trans (f5.mono (fun _ _ y => ⟨Or.inr y.1, y.2⟩))) (by rw [(f5.cc (hK_lt (f3.kk kl (by decide)) (by decide)) (fun y => nlm y.1.symm)).1]; exact ls3) (fun t => ?_) ?_ ?_ ?_
    · rw [vMp_sM, tx3]
      by_cases e : t = vTx v nm
      · rw [if_pos ⟨rfl, e⟩, if_pos ⟨e, by rw [e]; exact nw⟩]
      · rw [if_neg (fun q => e q.2), if_neg (fun q => e q.1), vMp_bm, mp3]
    · show n5 ≤ _
      omega
    · show _ ≤ s5
      omega
    · show s5 ≤ _
      omega
  · rw [if_neg nw] at q ⊢
    rw [if_pos (by decide)]
    refine q h3 v3 c3 F3 ls3 (fun t => ?_) (by omega) (by omega) (by omega)
    rw [mp3, if_neg (fun q => nw (by rw [← q.1]; exact q.2))]
end WYN
