/-! JDK: texts, 3: a text within a text *-/
def fndI (V S : List Int32) : Nat → Nat → Int
  | 0, _ => -1
  | d + 1, i => if (V.drop i).take S.length = S then (i : Int) else fndI V S d (i + 1)
section TX3
variable {r a b e n k i : Nat} {h : am_H} {v : vT} {Q : am_O → am_H → Prop} {x : Int} {T U V S : List Int32}
/-- the places for locals of the search -/
def ixL (a b : Nat) (V S : List Int32) (mx : Nat) (i : Nat) (l8 l9 l10 : Option am_V) : List (Option am_V) :=
  [some (vR (some a)), some (vI (iI V.length)), some (vR (some b)), some (vI (iI S.length)), some (vI 0), some (vI (S.getD 0 0)), some (vI (iI mx)), some (vI (iI i)), l8, l9, l10]
theorem takeE {d : Int32} {T : List Int32} {i n : Nat} (hi : i < T.length) : (T.drop i).take (n + 1) = T.getD i d :: (T.drop (i + 1)).take n := by
  rw [dropE (d := d) hi, List.take_succ_cons]
/-- the rest of a match -/
theorem ix_m {mx : Nat} {P : Prop} (A : BA h a V) (B : BA h b S) (hm : mx + S.length = V.length) (hi : i ≤ mx) (K : ∀ l8 l9 l10, Rn r 308 113 (ixL a b V S mx i l8 l9 l10) [] h Q ↔ P) : ∀ (d m : Nat), m + d = S.length → 1 ≤ m →
    (Rn r 308 76 (ixL a b V S mx i (some (vI (iI ((i + m : Nat) : Int)))) (some (vI (iI ((i + S.length : Nat) : Int)))) (some (vI (iI m)))) [] h Q ↔ if (V.drop (i + m)).take d = S.drop m then Q (Sum.inl (some (vI (iI i)))) h else P) := by
  obtain ⟨a1, a2, a3, a4⟩ := A
  obtain ⟨b1, b2, b3, b4⟩ := B
  intro d
  induction d with
  | zero =>
    intro m hd h1
    have e0 : m = S.length := by omega
    subst e0
    unfold ixL at K ⊢
    rw [List.take_zero, List.drop_eq_nil_of_le (Nat.le_refl _), if_pos rfl]
    rw [sJ14_indexOf_3_76, sJ14_indexOf_3_78, sJ14_indexOf_3_80, if_pos (by rw [iI_le (by omega) (by omega) (by omega) (by omega)]; omega), sJ14_indexOf_3_103, sJ14_indexOf_3_105, sJ14_indexOf_3_107, if_neg (fun z => z rfl), sJ14_indexOf_3_110, sJ14_indexOf_3_112]
  | succ d ih =>
    intro m hd h1
    have e1 : iI ((i + m : Nat) : Int) + (1 : Int32) = iI ((i + (m + 1) : Nat) : Int) := c_i1
    have e2 : iI (m : Nat) + (1 : Int32) = iI ((m + 1 : Nat) : Int) := c_i1
    rw [takeE (d := 0) (by omega), dropE (d := 0) (i := m) (T := S) (by omega)]
    have nx := ih (m + 1) (by omega) (by omega)
    unfold ixL at K nx ⊢
    rw [sJ14_indexOf_3_76, sJ14_indexOf_3_78, sJ14_indexOf_3_80, if_neg (by rw [iI_le (by omega) (by omega) (by omega) (by omega)]; omega), sJ14_indexOf_3_83, sJ14_indexOf_3_84, sJ14_indexOf_3_86 (by omega) (by omega) (by rw [a2]; exact bd_i (by omega) (by omega)), nn_i (by omega), a3 _ (by omega), sJ14_indexOf_3_87, sJ14_indexOf_3_88, sJ14_indexOf_3_90 (by omega) (by omega) (by rw [b2]; exact bd_i (by omega) (by omega)), nn_i (by omega), b3 _ (by omega), sJ14_indexOf_3_91]
    by_cases p : V.getD (i + m) 0 = S.getD m 0
    · rw [if_neg (fun z => z p), sJ14_indexOf_3_94, e1, sJ14_indexOf_3_97, e2, sJ14_indexOf_3_100, nx, p, show i + m + 1 = i + (m + 1) by omega]
      simp only [List.cons.injEq, true_and]
    · rw [if_pos p, if_neg (fun z => p (List.cons.inj z).1), sJ14_indexOf_3_103, sJ14_indexOf_3_105, sJ14_indexOf_3_107, if_pos (by rw [ne_eq, iI_eq (by omega) (by omega) (by omega) (by omega)]; omega), K]
theorem ix_all {mx : Nat} (A : BA h a V) (B : BA h b S) (hm : mx + S.length = V.length) (s1 : 1 ≤ S.length) : ∀ (d i : Nat), i + d = mx + 1 →
    (∀ l8 l9 l10, Rn r 308 14 (ixL a b V S mx i l8 l9 l10) [] h Q ↔ Q (Sum.inl (some (vI (iI (fndI V S d i))))) h) ∧
    (∀ l8 l9 l10, (i ≤ mx → V.getD i 0 = S.getD 0 0) → (Rn r 308 52 (ixL a b V S mx i l8 l9 l10) [] h Q ↔ Q (Sum.inl (some (vI (iI (fndI V S d i))))) h)) ∧
    (∀ l8 l9 l10, i ≤ mx → V.getD i 0 ≠ S.getD 0 0 → (Rn r 308 30 (ixL a b V S mx i l8 l9 l10) [] h Q ↔ Q (Sum.inl (some (vI (iI (fndI V S d i))))) h)) := by
  have A' := A
  have B' := B
  obtain ⟨a1, a2, a3, a4⟩ := A
  obtain ⟨b1, b2, b3, b4⟩ := B
  intro d
  have m1 : iI (-1) = -1 := rfl
  have end14 : ∀ i, mx < i → i ≤ mx + 2 → ∀ l8 l9 l10, Rn r 308 14 (ixL a b V S mx i l8 l9 l10) [] h Q ↔ Q (Sum.inl (some (vI (iI (-1))))) h := by
    intro i h1 h2 l8 l9 l10
    unfold ixL
    rw [sJ14_indexOf_3_14, sJ14_indexOf_3_16, sJ14_indexOf_3_18, if_pos (by rw [iI_lt (by omega) (by omega) (by omega) (by omega)]; omega), sJ14_indexOf_3_119, sJ14_indexOf_3_120, m1]
  have end52 : ∀ i, mx < i → i ≤ mx + 1 → ∀ l8 l9 l10, Rn r 308 52 (ixL a b V S mx i l8 l9 l10) [] h Q ↔ Q (Sum.inl (some (vI (iI (-1))))) h := by
    intro i h1 h2 l8 l9 l10
    have := end14 (i + 1) (by omega) (by omega) l8 l9 l10
    unfold ixL at this ⊢
    rw [sJ14_indexOf_3_52, sJ14_indexOf_3_54, sJ14_indexOf_3_56, if_pos (by rw [iI_lt (by omega) (by omega) (by omega) (by omega)]; omega), sJ14_indexOf_3_113, c_i1, sJ14_indexOf_3_116, this]
  induction d with
  | zero =>
    intro i hi
    exact ⟨end14 i (by omega) (by omega), fun l8 l9 l10 _ => end52 i (by omega) (by omega) l8 l9 l10, fun l8 l9 l10 q => by omega⟩
  | succ d ih =>
    intro i hi
    obtain ⟨i1, i2, i3⟩ := ih (i + 1) (by omega)
    have no : V.getD i 0 ≠ S.getD 0 0 → ¬ (V.drop i).take S.length = S := by
      intro p q
      have e : S.length = (S.length - 1) + 1 := by omega
      rw [e, takeE (d := 0) (by omega)] at q
      have s0 := dropE (d := 0) (i := 0) (T := S) (by omega)
      rw [List.drop_zero] at s0
      rw [s0] at q
      exact p (by simpa using (List.cons.inj q).1)
    have j52 : ∀ l8 l9 l10, (i ≤ mx → V.getD i 0 = S.getD 0 0) → (Rn r 308 52 (ixL a b V S mx i l8 l9 l10) [] h Q ↔ Q (Sum.inl (some (vI (iI (fndI V S (d + 1) i))))) h) := by
      intro l8 l9 l10 q
      have q := q (by omega)
      have K : ∀ l8 l9 l10, Rn r 308 113 (ixL a b V S mx i l8 l9 l10) [] h Q ↔ Q (Sum.inl (some (vI (iI (fndI V S d (i + 1)))))) h := by
        intro l8 l9 l10
        have := i1 l8 l9 l10
        unfold ixL at this ⊢
        rw [sJ14_indexOf_3_113, c_i1, sJ14_indexOf_3_116, this]
      have M := ix_m A' B' hm (by omega) K (S.length - 1) 1 (by omega) (Nat.le_refl _)
      have e3 : iI ((i + 1 : Nat) : Int) + iI S.length - (1 : Int32) = iI ((i + S.length : Nat) : Int) := by
        rw [i_1, iI_add, iI_sub]
        congr 1
        omega
      have e4 : (1 : Int32) = iI ((1 : Nat) : Int) := rfl
      have e5 : fndI V S (d + 1) i = if (V.drop (i + 1)).take (S.length - 1) = S.drop 1 then (i : Int) else fndI V S d (i + 1) := by
        rw [fndI]
        have e : S.length = (S.length - 1) + 1 := by omega
        have s0 := dropE (d := 0) (i := 0) (T := S) (by omega)
        rw [List.drop_zero] at s0
        have : (V.drop i).take S.length = S ↔ (V.drop (i + 1)).take (S.length - 1) = S.drop 1 := by
          constructor
          · intro z
            rw [e, takeE (d := 0) (by omega), s0] at z
            have := (List.cons.inj z).2
            simpa using this
          · intro z
            rw [e, takeE (d := 0) (by omega), q]
            rw [z]
            exact s0.symm
        simp only [this]
      unfold ixL at M ⊢
      rw [sJ14_indexOf_3_52, sJ14_indexOf_3_54, sJ14_indexOf_3_56, if_neg (by rw [iI_lt (by omega) (by omega) (by omega) (by omega)]; omega), sJ14_indexOf_3_59, sJ14_indexOf_3_61, sJ14_indexOf_3_62, c_i1, sJ14_indexOf_3_63, sJ14_indexOf_3_65, sJ14_indexOf_3_67, sJ14_indexOf_3_68, sJ14_indexOf_3_69, sJ14_indexOf_3_70, e3, sJ14_indexOf_3_71, sJ14_indexOf_3_73, e4, sJ14_indexOf_3_74, M, e5]
      split <;> rfl
    have j30 : ∀ l8 l9 l10, i ≤ mx → V.getD i 0 ≠ S.getD 0 0 → (Rn r 308 30 (ixL a b V S mx i l8 l9 l10) [] h Q ↔ Q (Sum.inl (some (vI (iI (fndI V S (d + 1) i))))) h) := by
      intro l8 l9 l10 q1 q2
      rw [fndI, if_neg (no q2)]
      have z52 := i2 l8 l9 l10
      have z30 := i3 l8 l9 l10
      by_cases p : mx < i + 1
      · have := z52 (fun z => by omega)
        unfold ixL at this ⊢
        rw [sJ14_indexOf_3_30, c_i1, sJ14_indexOf_3_33, sJ14_indexOf_3_35, sJ14_indexOf_3_37, if_pos (by rw [iI_lt (by omega) (by omega) (by omega) (by omega)]; omega), this]
      · by_cases p2 : V.getD (i + 1) 0 = S.getD 0 0
        · have := z52 (fun _ => p2)
          unfold ixL at this ⊢
          rw [sJ14_indexOf_3_30, c_i1, sJ14_indexOf_3_33, sJ14_indexOf_3_35, sJ14_indexOf_3_37, if_neg (by rw [iI_lt (by omega) (by omega) (by omega) (by omega)]; omega), sJ14_indexOf_3_40, sJ14_indexOf_3_41, sJ14_indexOf_3_43 (by omega) (by omega) (by rw [a2]; exact bd_i (by omega) (by omega)), nn_i (by omega), a3 _ (by omega), sJ14_indexOf_3_44, sJ14_indexOf_3_46, if_pos p2, this]
        · have := z30 (by omega) p2
          unfold ixL at this ⊢
          rw [sJ14_indexOf_3_30, c_i1, sJ14_indexOf_3_33, sJ14_indexOf_3_35, sJ14_indexOf_3_37, if_neg (by rw [iI_lt (by omega) (by omega) (by omega) (by omega)]; omega), sJ14_indexOf_3_40, sJ14_indexOf_3_41, sJ14_indexOf_3_43 (by omega) (by omega) (by rw [a2]; exact bd_i (by omega) (by omega)), nn_i (by omega), a3 _ (by omega), sJ14_indexOf_3_44, sJ14_indexOf_3_46, if_neg p2, sJ14_indexOf_3_49, this]
    refine ⟨?_, j52, j30⟩
    intro l8 l9 l10
    have w52 := j52 l8 l9 l10
    have w30 := j30 l8 l9 l10 (by omega)
    by_cases p : V.getD i 0 = S.getD 0 0
    · have := w52 (fun _ => p)
      unfold ixL at this ⊢
      rw [sJ14_indexOf_3_14, sJ14_indexOf_3_16, sJ14_indexOf_3_18, if_neg (by rw [iI_lt (by omega) (by omega) (by omega) (by omega)]; omega), sJ14_indexOf_3_21, sJ14_indexOf_3_22, sJ14_indexOf_3_24 (by omega) (by omega) (by rw [a2]; exact bd_i (by omega) (by omega)), nn_i (by omega), a3 _ (by omega), sJ14_indexOf_3_25, sJ14_indexOf_3_27, if_pos p, this]
    · have := w30 p
      unfold ixL at this ⊢
      rw [sJ14_indexOf_3_14, sJ14_indexOf_3_16, sJ14_indexOf_3_18, if_neg (by rw [iI_lt (by omega) (by omega) (by omega) (by omega)]; omega), sJ14_indexOf_3_21, sJ14_indexOf_3_22, sJ14_indexOf_3_24 (by omega) (by omega) (by rw [a2]; exact bd_i (by omega) (by omega)), nn_i (by omega), a3 _ (by omega), sJ14_indexOf_3_25, sJ14_indexOf_3_27, if_neg p, this]
theorem fnd_lo (V S : List Int32) : ∀ d i, -1 ≤ fndI V S d i ∧ fndI V S d i < i + d ∨ fndI V S d i = -1 := by
  intro d
  induction d with
  | zero => intro i; exact Or.inr rfl
  | succ d ih =>
    intro i
    rw [fndI]
    split
    · left; omega
    · rcases ih (i + 1) with z | z
      · left; omega
      · exact Or.inr z
theorem st_contains {V S : List Int32} (s : RS h a b V) (t : RS h e k S) (s1 : 1 ≤ S.length) (s2 : S.length ≤ V.length) :
    Cl r 217 [vR (some a), vR (some e)] h Q ↔ Q (Sum.inl (some (vI (if 0 ≤ fndI V S (V.length - S.length + 1) 0 then 1 else 0)))) h := by
  have one : ¬ ((1 : Int32) = 0) := by decide
  have F := fnd_lo V S (V.length - S.length + 1) 0
  have ix := fun Q => (ix_all (r := r) (Q := Q) (mx := V.length - S.length) s.ba t.ba (by omega) s1 (V.length - S.length + 1) 0 (by omega)).1
  have cd : ∀ Q, Cl r 264 [vR (some a)] h Q ↔ _ := fun Q => st_coder s
  have cd2 : ∀ Q, Cl r 264 [vR (some e)] h Q ↔ _ := fun Q => st_coder t
  have lat : ∀ Q, Cl r 212 [vR (some a)] h Q ↔ _ := fun Q => st_lat s
  obtain ⟨p1, p2, p3, p4, p5, p6, p7, p8⟩ := s
  obtain ⟨t1, t2, t3, t4, t5, t6, t7, t8⟩ := t
  have e1 : iI V.length - iI S.length = iI ((V.length - S.length : Nat) : Int) := by rw [iI_sub]; congr 1; omega
  have e2 : ¬ iI S.length = (0 : Int32) := by rw [i_0, iI_eq (by omega) (by omega) (by omega) (by omega)]; omega
  have e3 : ¬ iI V.length = (0 : Int32) := by rw [i_0, iI_eq (by omega) (by omega) (by omega) (by omega)]; omega
  have k1 : 40 ≤ hK h b := by omega
  have k2 : hK h b ≤ 49 := by omega
  have k3 : 40 ≤ hK h k := by omega
  have k4 : hK h k ≤ 49 := by omega
  have d0 := bd_i (n := 0) (l := hL h k) (by omega) (by omega)
  have i3 : ∀ Q, Cl r 308 [vR (some b), vI (iI V.length), vR (some k), vI (iI S.length), vI 0] h Q ↔ Q (Sum.inl (some (vI (iI (fndI V S (V.length - S.length + 1) 0))))) h := fun Q => by
    have := ix Q none none none
    unfold ixL at this
    rw [eJ14_indexOf_3, sJ14_indexOf_3_0, sJ14_indexOf_3_1, sJ14_indexOf_3_2 (by omega) (by omega) (by exact d0), show ((0 : Int32)).toNatClampNeg = 0 from rfl, t6 0 (by omega), sJ14_indexOf_3_3, sJ14_indexOf_3_5, sJ14_indexOf_3_6, sJ14_indexOf_3_7, e1, sJ14_indexOf_3_8, sJ14_indexOf_3_10, sJ14_indexOf_3_12]
    exact this
  have i2 : ∀ Q, Cl r 297 [vR (some b), vR (some k)] h Q ↔ Q (Sum.inl (some (vI (iI (fndI V S (V.length - S.length + 1) 0))))) h := fun Q => by
    simp only [eJ14_indexOf_2, sJ14_indexOf_2_0, sJ14_indexOf_2_1, sJ14_indexOf_2_2, sJ14_indexOf_2_5, sJ14_indexOf_2_6, sJ14_indexOf_2_7, sJ14_indexOf_2_8, sJ14_indexOf_2_9, sJ14_indexOf_2_12, sJ14_indexOf_2_13, sJ14_indexOf_2_14, sJ14_indexOf_2_15, sJ14_indexOf_2_16, sJ14_indexOf_2_17, sJ14_indexOf_2_18, sJ14_indexOf_2_19, sJ14_indexOf_2_20, sJ14_indexOf_2_21, sJ14_indexOf_2_24, k1, k2, k3, k4, p5, t5, iI_nI, ne_eq, e2, e3, not_false_eq_true, if_true, i3, Kt_v]
  have i1 : ∀ Q, Cl r 270 [vR (some a), vR (some e)] h Q ↔ Q (Sum.inl (some (vI (iI (fndI V S (V.length - S.length + 1) 0))))) h := fun Q => by
    simp only [eJ13_indexOf_3, sJ13_indexOf_3_0, sJ13_indexOf_3_1, sJ13_indexOf_3_4, sJ13_indexOf_3_5, sJ13_indexOf_3_6, sJ13_indexOf_3_7, sJ13_indexOf_3_10, sJ13_indexOf_3_13, sJ13_indexOf_3_14, sJ13_indexOf_3_17, sJ13_indexOf_3_20, sJ13_indexOf_3_21, sJ13_indexOf_3_24, sJ13_indexOf_3_25, sJ13_indexOf_3_28, sJ13_indexOf_3_31, sJ13_indexOf_3_34, sJ13_indexOf_3_35, sJ13_indexOf_3_38, sJ13_indexOf_3_39, sJ13_indexOf_3_45, sJ13_indexOf_3_46, sJ13_indexOf_3_47, sJ13_indexOf_3_50, sJ13_indexOf_3_51, sJ13_indexOf_3_52, sJ13_indexOf_3_53, sJ13_indexOf_3_56, sJ13_indexOf_3_57, sJ13_indexOf_3_63, p1, p2, t1, t2, cd, cd2, Kt_v, lat, ne_eq, not_true_eq_false, if_false, one, p3, t3, i2]
  simp only [eJ13_contains, sJ13_contains_0, sJ13_contains_1, sJ13_contains_2, sJ13_contains_7, sJ13_contains_10, sJ13_contains_13, sJ13_contains_14, sJ13_contains_17, sJ13_contains_18, t1, t2, eJ13_toString, sJ13_toString_0, sJ13_toString_1, Kt_v, p1, p2, i1]
  by_cases p : 0 ≤ fndI V S (V.length - S.length + 1) 0
  · rw [if_neg (by rw [i_0, iI_lt (by omega) (by omega) (by omega) (by omega)]; omega), if_pos p]
    simp only [show am_fit 4 1 = true from rfl, sJ13_contains_13, sJ13_contains_14, sJ13_contains_17, sJ13_contains_18]
  · rw [if_pos (by rw [i_0, iI_lt (by omega) (by omega) (by omega) (by omega)]; omega), if_neg p]
    simp only [show am_fit 4 0 = true from rfl, sJ13_contains_13, sJ13_contains_14, sJ13_contains_17, sJ13_contains_18]
end TX3
