/-! COMPONENT, 28: what a statement needs *-/
section SNS
variable {r rd tp wr u ls : Nat} {h : am_H} {v : vT} {S : tSt} {Q : am_O → am_H → Prop} {l1 l2 l3 l4 l5 l6 l7 l8 l9 l10 l11 l12 : Option am_V}
theorem st_need (c : CR h v) (t : PT v rd tp wr S) (r7 : hR v.1 rd 7 = some u) (ku : hK v.1 u = 5) (u4 : hR v.1 u 4 = some ls) (kl : hK v.1 ls = 4) (hn : (vLs v ls).length ≤ 120)
    (q1 : tBegins S = true → (vLs v ls).length ≠ 120 → ∀ h' v', CR h' v' → Fw (fun _ _ => False) v v' → hN v'.1 ≤ hN v.1 + 4 → hS v.1 ≤ hS v'.1 → hS v'.1 ≤ hS v.1 + 40 → Rn r 175 86 [some (vR (some rd)), l1, some (vI (bI (tBegins S = true))), l3, l4, l5, l6, l7, l8, l9, l10, l11, l12] [] h' Q)
    (q2 : ¬ (tBegins S = true ∧ (vLs v ls).length ≠ 120) → ∀ h' v', CR h' v' → Wg rd wr 4 40 v v' (S 49 0) → Q (Sum.inr wr) h') :
    Rn r 175 0 [some (vR (some rd)), l1, l2, l3, l4, l5, l6, l7, l8, l9, l10, l11, l12] [] h Q := by
  refine t_begins c t (fun h1 v1 c1 f1 n1 s0 s1 => ?_)
  have t1 := PT_0 f1 t
  have kr1 := c1.kk t1.w0.1 (by decide)
  have ku1 := f1.kk ku (by decide)
  have kl1 := f1.kk kl (by decide)
  have g7 : hR v1.1 rd 7 = some u := by rw [(f1.ff (hK_lt t.w0.1 (by decide)) (fun z => z)).2.2]; exact r7
  have g4 : hR v1.1 u 4 = some ls := by rw [(f1.ff (hK_lt ku (by decide)) (fun z => z)).2.2]; exact u4
  have ll : vLs v1 ls = vLs v ls := (f1.cc (hK_lt kl (by decide)) (fun z => z)).1
  have sz : ∀ Q, Cl r 34 [vR (some ls)] h1 Q ↔ _ := fun Q => v_size c1 kl1
  have fq : Fw (Xq rd wr) v v1 := f1.mono (fun _ _ z => z.elim)
  have key : Rn r 175 83 [some (vR (some rd)), l1, some (vI (bI (tBegins S = true))), l3, l4, l5, l6, l7, l8, l9, l10, l11, l12] [vI (bI (tBegins S = true ∧ (vLs v ls).length ≠ 120)), vR (some rd)] h1 Q := by
    rw [sX1_statement_83 kr1]
    refine t_need c1 t1 (fun p => ?_) (fun p h' v' c' w' => ?_)
    · rw [Kt_0]
      exact q1 p.1 p.2 h1 v1 c1 f1 n1 s0 s1
    · rw [Kt_x]
      exact q2 p h' v' c' (w'.pre fq n1 s0 s1)
  rw [sX1_statement_57, sX1_statement_58, sX1_statement_59, sX1_statement_60, i_0]
  unfold bI at key
  by_cases b : tBegins S = true
  · rw [if_neg (fun z => bI_0.mp z b), sX1_statement_63, sX1_statement_64 kr1, c1.rr t1.w0.1 rfl, g7, sX1_statement_67 (c1.kk ku1 (by decide)), c1.rr ku1 rfl, g4, sX1_statement_70 (c1.kk kl1 (by decide)), sz, Kt_v, ll, sX1_statement_73, sX1_statement_75, i_120]
    by_cases e : (vLs v ls).length = 120
    · rw [if_pos (by rw [iI_le (by omega) (by omega) (by omega) (by omega)]; omega), sX1_statement_82]
      rw [if_neg (c := tBegins S = true ∧ (vLs v ls).length ≠ 120) (fun z => z.2 e)] at key
      exact key
    · rw [if_neg (by rw [iI_le (by omega) (by omega) (by omega) (by omega)]; omega), sX1_statement_78, sX1_statement_79]
      rw [if_pos (c := tBegins S = true ∧ (vLs v ls).length ≠ 120) ⟨b, e⟩] at key
      exact key
  · rw [if_pos (bI_0.mpr b), sX1_statement_82]
    rw [if_neg (c := tBegins S = true ∧ (vLs v ls).length ≠ 120) (fun z => b z.1)] at key
    exact key
end SNS
/-! tags of new lists -/
/-- all lists that are new get the tag k -/
def Tnw (v v' : vT) (T : Nat → Nat) (k : Nat) (a : Nat) : Nat := if a < hN v.1 then T a else if hK v'.1 a = 4 then k else 0
section TNS
variable {v v' : vT} {T : Nat → Nat} {k : Nat} {X : Nat → Nat → Prop}
theorem Tnw_o {a : Nat} (h : a < hN v.1) : Tnw v v' T k a = T a := if_pos h
theorem Tnw_n {a : Nat} (h : hN v.1 ≤ a) (e : hK v'.1 a = 4) : Tnw v v' T k a = k := by
  unfold Tnw
  rw [if_neg (by omega), if_pos e]
theorem Tnw_g (f : Fw X v v') (t : TG v T ∧ TZ v T) : TG v' (Tnw v v' T k) ∧ TZ v' (Tnw v v' T k) := by
  refine ⟨fun a h0 h1 h2 => ?_, fun a ha => ?_⟩
  · unfold Tnw
    by_cases p : a < hN v.1
    · rw [if_pos p]
      rw [(f.2.2 a p).1] at h0 h1 h2
      exact t.1 a h0 h1 h2
    · rw [if_neg p, if_neg h1]
  · unfold Tnw
    have := f.1
    rw [if_neg (by omega), if_neg]
    intro z
    have := hK_lt z (by decide)
    omega
end TNS
