/-! COMPONENT, 31: do and return *-/
section PLS
variable {r rd tp wr a : Nat} {h : am_H} {v : vT} {S : tSt} {o : Option Nat} {x : Int} {Q : am_O → am_H → Prop}
theorem c_plain0 (c : CR h v) (t : PT v rd tp wr S) (ka : hK v.1 a = 30) (e : hI v.1 a 5 = iI x) (x0 : x = 0 ∨ x = 8)
    (q1 : S 51 0 = 59 → tAdv S 51 0 ≠ -2 → ∀ h' v', CR h' v' → Fw (Xq rd wr) v v' → PT v' rd tp wr (tAdv S) → (hN v'.1 : Int) ≤ hN v.1 + 20 * (tAdv S 47 0 - S 47 0) → hS v.1 ≤ hS v'.1 → (hS v'.1 : Int) ≤ hS v.1 + 200 * (tAdv S 47 0 - S 47 0) → Q (Sum.inl none) h')
    (q2 : S 51 0 = 59 → tAdv S 51 0 = -2 → ∀ h' v', CR h' v' → Wg rd wr 0 0 v v' (tAdv S 49 0) → Q (Sum.inr wr) h')
    (q3 : S 51 0 ≠ 59 → ∀ h' v', CR h' v' → Wg rd wr 0 0 v v' (S 49 0) → Q (Sum.inr wr) h') : Cl r 221 [vR (some rd), vR (some a), vR o] h Q := by
  have kr := c.kk t.w0.1 (by decide)
  have k3 : ¬ iI x = iI 3 := by rw [iI_eq (by omega) (by omega) (by omega) (by omega)]; omega
  rw [eX1_plain, sX1_plain_0, sX1_plain_1 (c.kk ka (by decide)), c.ii ka rfl, e, sX1_plain_4, sX1_plain_5, i_3, if_pos k3, sX1_plain_105, sX1_plain_106, sX1_plain_108 kr, i_59]
  refine t_want c t (by omega) (fun s1 s2 h' v' c' f' t' b1 b2 b3 _ => ?_) (fun s1 s2 h' v' c' w' => ?_) (fun s1 h' v' c' w' => ?_)
  · rw [Kt_0, sX1_plain_111]
    exact q1 s1 s2 h' v' c' f' t' b1 b2 b3
  · rw [Kt_x]
    exact q2 s1 s2 h' v' c' w'
  · rw [Kt_x]
    exact q3 s1 h' v' c' w'
end PLS
