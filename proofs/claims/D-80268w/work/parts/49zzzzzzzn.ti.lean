/-! COMPONENT, 93: kinds and methods between methods *-/
/-- few names, all of them words -/
def KL (v : vT) (m : Nat) (n : Int) : Prop := ∃ L : List (List Int32), (L.length : Int) ≤ n ∧ ∀ s z, vMp v m s = some z → s ∈ L ∧ okK s ∧ s ≠ []
/-- a method; ov: what it is over -/
def MF (v : vT) (A : Nat → Int → Nat) (T : Nat → Nat) (U : tSt) (w : Int) (ov : Int → Option Nat) (m : Int) : Prop :=
  hK v.1 (A 1 m) = 18 ∧ hI v.1 (A 1 m) 1 = iI m ∧ hI v.1 (A 1 m) 2 = iI (U 11 (w * 12 + m)) ∧ hI v.1 (A 1 m) 3 = bI (U 14 (w * 12 + m) ≠ 0) ∧
  (U 12 (w * 12 + m) = 0 → hR v.1 (A 1 m) 4 = none) ∧ (U 12 (w * 12 + m) ≠ 0 → TXn v (hR v.1 (A 1 m) 4) (U 12 (w * 12 + m)) ∧ hI v.1 (A 1 m) 5 = iI (U 13 (w * 12 + m))) ∧ hR v.1 (A 1 m) 6 = ov m ∧
  (∃ l, hR v.1 (A 1 m) 7 = some l ∧ T l = 1 ∧ NL v (A 0) l (U 15 (w * 12 + m)) (fun i => kO U w (U 16 (4 * (w * 12 + m) + i)) (U 17 (4 * (w * 12 + m) + i))) (fun i => U 17 (4 * (w * 12 + m) + i))) ∧ hR v.1 (A 1 m) 8 = optA (A 3) (U 18 (w * 12 + m))
/-- methods by name -/
def MMp (v : vT) (mm : Nat) (A : Int → Nat) (U : tSt) (w : Int) : Prop := hK v.1 mm = 6 ∧ ∀ t, okK t → vMp v mm t = optA A (mO U w (wN t))
/-- the methods of a unit, by number and by name -/
def MT (R : Nat → Nat) (A : Nat → Int → Nat) (T : Nat → Nat) (w : Int) (v : vT) (U : tSt) (ov : Int → Option Nat) : Prop :=
  (hR v.1 (R 3) 2 = some (R 6) ∧ hK v.1 (R 6) = 4 ∧ vLs v (R 6) = rowL (A 1) 0 (U 9 w)) ∧ (hR v.1 (R 3) 3 = some (R 7) ∧ MMp v (R 7) (A 1) U w ∧ KL v (R 7) (U 9 w)) ∧ (T (R 4) = 6 ∧ T (R 6) = 6 ∧ R 4 ≠ R 6 ∧ R 5 ≠ R 7) ∧ ∀ m, 0 ≤ m → m < U 9 w → MF v A T U w ov m
/-- what is known of the rows alone -/
def PX (w : Int) (S U : tSt) : Prop := (PI w S U ∧ PR w U ∧ QV U ∧ (0 ≤ w ∧ w ≤ 1)) ∧ (PL w S U ∧ PK w S U) ∧ (S 52 0 = -1 ∧ S 49 0 ≤ S 47 0) ∧ ∀ k, 4 ≤ k → k < U 3 w → U 5 (w * 16 + k) ≤ S 49 0
def TI (R : Nat → Nat) (A : Nat → Int → Nat) (T : Nat → Nat) (w p0 : Int) (v : vT) (S U : tSt) : Prop := GT R A T w p0 v S U ∧ RK v (R 3) (R 4) U w (A 0) ∧ KL v (R 5) (U 3 w) ∧ MT R A T w v U (fun _ => none) ∧ PX w S U
section TIS
variable {R : Nat → Nat} {A A' : Nat → Int → Nat} {T T' : Nat → Nat} {w s m p0 p0' : Int} {v v' : vT} {S S' U U' : tSt} {X : Nat → Nat → Prop} {ov : Int → Option Nat}
theorem KL_fw {mm : Nat} {n : Int} (f : Fw X v v') (k : hK v.1 mm = 6) (x : ¬ X mm 99) (y : KL v mm n) : KL v' mm n := by
  obtain ⟨L, y1, y2⟩ := y
  refine ⟨L, y1, fun s z e => y2 s z ?_⟩
  rw [(f.cc (hK_lt k (by decide)) x).2.1] at e
  exact e
theorem KL_add {mm nn : Nat} {t : List Int32} {n : Int} (h : ∀ s, vMp v' mm s = if s = t ∧ vMp v mm s = none then some nn else vMp v mm s) (ok : okK t) (ne : t ≠ []) (y : KL v mm n) : KL v' mm (n + 1) := by
  obtain ⟨L, y1, y2⟩ := y
  refine ⟨t :: L, by rw [List.length_cons]; omega, fun s z e => ?_⟩
  rw [h] at e
  by_cases q : s = t ∧ vMp v mm s = none
  · rw [q.1]
    exact ⟨List.mem_cons_self, ok, ne⟩
  · rw [if_neg q] at e
    obtain ⟨a, b⟩ := y2 s z e
    exact ⟨List.mem_cons_of_mem _ a, b⟩
theorem KL_sm {mm : Nat} {n : Int} (y : KL v mm n) (h : n ≤ 15) : ∃ L : List (List Int32), L.length ≤ 15 ∧ ∀ s z, vMp v mm s = some z → s ∈ L := by
  obtain ⟨L, y1, y2⟩ := y
  exact ⟨L, by omega, fun s z e => (y2 s z e).1⟩
/-- a method along a frame -/
theorem MF_mv (mf : MF v A T U w ov m) (f : Fw X v v') (xm : XM v T (hN v.1) X) (h18 : ∀ k, ¬ X (A 1 m) k) (tg : TG v T) (ht : ∀ a, T a ≠ 0 → T' a = T a) (e1 : A' 1 m = A 1 m) (e3 : optA (A' 3) (U 18 (w * 12 + m)) = optA (A 3) (U 18 (w * 12 + m)))
    (er : ∀ f, 10 ≤ f ∧ f ≤ 15 ∨ f = 18 → U' f (w * 12 + m) = U f (w * 12 + m)) (en : ∀ i, 0 ≤ i → i < U 15 (w * 12 + m) → U' 16 (4 * (w * 12 + m) + i) = U 16 (4 * (w * 12 + m) + i) ∧ U' 17 (4 * (w * 12 + m) + i) = U 17 (4 * (w * 12 + m) + i))
    (ko : ∀ i, 0 ≤ i → i < U 15 (w * 12 + m) → optA (A' 0) (kO U' w (U 16 (4 * (w * 12 + m) + i)) (U 17 (4 * (w * 12 + m) + i))) = optA (A 0) (kO U w (U 16 (4 * (w * 12 + m) + i)) (U 17 (4 * (w * 12 + m) + i)))) : MF v' A' T' U' w ov m := by
  obtain ⟨m1, m2, m3, m4, m5, m6, m7, ⟨l, m8, m9, ma⟩, mb⟩ := mf
  have q := fun j => f.ff (k := j) (hK_lt m1 (by decide)) (h18 j)
  unfold MF
  rw [e1, er 11 (by decide), er 12 (by decide), er 13 (by decide), er 14 (by decide), er 15 (by decide), er 18 (by decide), e3, (q 1).1, (q 2).1, (q 3).1, (q 4).2.2, (q 5).1, (q 6).2.2, (q 7).2.2, (q 8).2.2]
  refine ⟨f.kk m1 (by decide), m2, m3, m4, m5, fun z => ⟨TXn_fm f xm tg (m6 z).1, (m6 z).2⟩, m7, ⟨l, m8, by rw [ht _ (by omega)]; exact m9, ?_⟩, mb⟩
  exact NL_cg (NL_m f xm tg m9 ma) (fun i i0 i1 => ⟨by rw [(en i i0 i1).1, (en i i0 i1).2]; exact ko i i0 i1, (en i i0 i1).2⟩)
end TIS
