/-! COMPONENT, 110: judging: what is known *-/
/-- mistakes of a catch's kind that are found by judging -/
def mCj (U : tSt) (w i c k : Int) : List tMi :=
  if cK U w c k = -1 then []
  else (if 1 < cK U w c k ∧ chk U w (cK U w c k) = true ∧ tFor (fun q a => a || (sHas i q && bel U w q (cK U w c k))) (U 3 w).toNat 0 (und U w (cK U w c k) i) = false then [(3, (U 39 (4 * c + k), cK U w c k))] else []) ++
    ((if und U w (cK U w c k) (ahd U w c) = true then [(4, (U 39 (4 * c + k), cK U w c k))] else []) ++
     (if tFor (fun j a => a || (decide (cK U w c j ≠ -1) && (bel U w (cK U w c k) (cK U w c j) || bel U w (cK U w c j) (cK U w c k)))) k.toNat 0 false = true then [(5, (U 39 (4 * c + k), cK U w c k))] else []))
/-- mistakes of a statement that are found by judging it; of what comes behind it -/
def mJ0 (U : tSt) (w : Int) (c : Int → Int) (s : Int) : List tMi :=
  if U 20 s = 1 then (if mO U w (U 25 s) ≠ -1 ∧ U 27 s ≠ -1 ∧ U 14 (w * 12 + mO U w (U 25 s)) = 0 then [(11, (U 44 (U 27 s), -1))] else [])
  else if U 20 s = 9 then tCat (fun i => tCat (mCj U w (chO U w (ins U w c s)) (4 * s + i)) (U 37 (4 * s + i)).toNat 0) (U 33 s).toNat 0
  else if U 20 s = 10 then mUnt U w (bC U w c (U 27 s)) (nmO U w s) (U 21 s)
  else if U 20 s = 7 then (if tgt U s = -1 then [(8, (U 21 s, -1))] else []) else []
def mJ7 (U : tSt) (l : Int → Int) (s : Int) : List tMi := if U 24 s ≠ -1 ∧ l s = 0 then [(7, (U 21 (U 24 s), -1))] else []
def mJs (U : tSt) (w : Int) (c l : Int → Int) (s : Int) : List tMi := mJ0 U w c s ++ mJ7 U l s
/-- the rows, and what the twin found: what statements can throw (c), whether they can be left (l) -/
def JP (w : Int) (g : Int → Int) (U : tSt) (c l : Int → Int) : Prop := (ZA w U ∧ ZB w U ∧ ZC w U ∧ ZD w U ∧ ZG w g U) ∧ (PQ w U ∧ QV U ∧ QW w U ∧ (0 ≤ w ∧ w ≤ 1 ∧ ZH w U)) ∧ (∀ s, As w U s → sOk (c s) ∧ c s = can U w c l s ∧ (l s ≠ 0 ↔ lvs U w l s = true)) ∧ (∀ b d, Ab w U b → Ab w U d → b < d → U 44 b < U 44 d) ∧ ∀ b, Ab w U b → 0 ≤ U 44 b ∧ U 44 b ≤ 2000
/-- a unit that is judged: L0 the mistakes before, Nd the statements that are judged, X mistakes of those in hand -/
def SJ (R : Nat → Nat) (A : Nat → Int → Nat) (T : Nat → Nat) (w p0 : Int) (U : tSt) (c l : Int → Int) (L0 : List tMi) (v : vT) (Nd : List Int) (X : List tMi) : Prop :=
  GU R A T w p0 v U (ocL U w A (stL U w (fun s => decide (U 20 s = 1)))) (clL U w A (stL U w (fun s => decide (U 20 s = 9)))) (ovL U w A (U 9 w)) ∧ (∃ E, ML v (R 9) (insA [] (L0 ++ E)) ∧ E.Perm (Nd.flatMap (mJs U w c l) ++ X)) ∧ (Nd.Nodup ∧ ∀ x, x ∈ Nd → As w U x) ∧ (L0.length ≤ 3800 ∧ X.length ≤ 2000)
def BF (A : Nat → Int → Nat) (w : Int) (U : tSt) (c l : Int → Int) (v : vT) (b : Int) : Prop := hI v.1 (A 3 b) 2 = iI (bC U w c b) ∧ hI v.1 (A 3 b) 3 = bI (isL U l b = true)
def SF (A : Nat → Int → Nat) (w : Int) (U : tSt) (c l : Int → Int) (v : vT) (s : Int) : Prop := hI v.1 (A 2 s) 3 = iI (c s) ∧ hI v.1 (A 2 s) 4 = bI (l s ≠ 0)
def IF (A : Nat → Int → Nat) (w : Int) (U : tSt) (c : Int → Int) (v : vT) (s : Int) : Prop := hI v.1 (A 2 s) 11 = iI (ins U w c s)
/-- what is judged: the blocks P and their statements -/
def JD (A : Nat → Int → Nat) (w : Int) (U : tSt) (c l : Int → Int) (v : vT) (P : Int → Prop) : Prop := (∀ k, Ab w U k → P k → BF A w U c l v k) ∧ ∀ x, As w U x → P (U 22 x) → SF A w U c l v x ∧ (U 20 x = 9 → IF A w U c v x)
/-- sums stay, but of the blocks P with their statements, and of the statements E -/
def JF (A : Nat → Int → Nat) (w : Int) (U : tSt) (v v' : vT) (P E : Int → Prop) : Prop := (∀ k, Ab w U k → ¬ P k → hI v'.1 (A 3 k) 2 = hI v.1 (A 3 k) 2 ∧ hI v'.1 (A 3 k) 3 = hI v.1 (A 3 k) 3) ∧ ∀ x, As w U x → ¬ P (U 22 x) → ¬ E x → hI v'.1 (A 2 x) 3 = hI v.1 (A 2 x) 3 ∧ hI v'.1 (A 2 x) 4 = hI v.1 (A 2 x) 4 ∧ hI v'.1 (A 2 x) 11 = hI v.1 (A 2 x) 11
section JSS
variable {R : Nat → Nat} {A : Nat → Int → Nat} {T : Nat → Nat} {w p0 s b : Int} {U : tSt} {c l g : Int → Int} {L0 X Y : List tMi} {v v' v'' : vT} {Nd : List Int} {P P' E E' : Int → Prop}
theorem JF.rf : JF A w U v v P E := ⟨fun _ _ _ => ⟨rfl, rfl⟩, fun _ _ _ _ => ⟨rfl, rfl, rfl⟩⟩
theorem JF.tr (f : JF A w U v v' P E) (h : JF A w U v' v'' P' E') : JF A w U v v'' (fun k => P k ∨ P' k) (fun x => E x ∨ E' x) := by
  refine ⟨fun k hk n => ?_, fun x hx n m => ?_⟩
  · obtain ⟨a1, a2⟩ := f.1 k hk (fun y => n (Or.inl y))
    obtain ⟨b1, b2⟩ := h.1 k hk (fun y => n (Or.inr y))
    exact ⟨b1.trans a1, b2.trans a2⟩
  · obtain ⟨a1, a2, a3⟩ := f.2 x hx (fun y => n (Or.inl y)) (fun y => m (Or.inl y))
    obtain ⟨b1, b2, b3⟩ := h.2 x hx (fun y => n (Or.inr y)) (fun y => m (Or.inr y))
    exact ⟨b1.trans a1, b2.trans a2, b3.trans a3⟩
theorem JF.mono (f : JF A w U v v' P E) (hP : ∀ k, Ab w U k → P k → P' k) (pw : PW w U) (hE : ∀ x, As w U x → E x → E' x ∨ P' (U 22 x)) : JF A w U v v' P' E' := by
  refine ⟨fun k hk n => f.1 k hk (fun y => n (hP k hk y)), fun x hx n m => f.2 x hx (fun y => n (hP _ (pw.1 x hx) y)) (fun y => ?_)⟩
  rcases hE x hx y with z | z
  · exact m z
  · exact n z
theorem JD.keep (d : JD A w U c l v P) (f : JF A w U v v' P' E) (pw : PW w U) (h1 : ∀ k, Ab w U k → P k → ¬ P' k) (h2 : ∀ x, As w U x → P (U 22 x) → ¬ E x) : JD A w U c l v' P := by
  refine ⟨fun k hk p => ?_, fun x hx p => ?_⟩
  · obtain ⟨a1, a2⟩ := f.1 k hk (h1 k hk p)
    unfold BF
    rw [a1, a2]
    exact d.1 k hk p
  · obtain ⟨a1, a2, a3⟩ := f.2 x hx (h1 _ (pw.1 x hx) p) (h2 x hx p)
    unfold SF IF
    rw [a1, a2, a3]
    exact d.2 x hx p
theorem JD.or (d : JD A w U c l v P) (e : JD A w U c l v P') : JD A w U c l v (fun k => P k ∨ P' k) := ⟨fun k hk p => by
    rcases p with p | p
    · exact d.1 k hk p
    · exact e.1 k hk p, fun x hx p => by
    rcases p with p | p
    · exact d.2 x hx p
    · exact e.2 x hx p⟩
theorem JP.pw (j : JP w g U c l) : PW w U := j.2.1.1.pw
theorem A3_inj (j : JP w g U c l) (gu : ∀ b, Ab w U b → FB v A T U w b) {d : Int} (hb : Ab w U b) (hd : Ab w U d) (e : A 3 b = A 3 d) : b = d := by
  have f1 := (gu b hb).2.1
  have f2 := (gu d hd).2.1
  have r1 := j.2.2.2.2 b hb
  have r2 := j.2.2.2.2 d hd
  rw [e, f2, iI_eq (by omega) (by omega) (by omega) (by omega)] at f1
  rcases Int.lt_trichotomy b d with h | h | h
  · have := j.2.2.2.1 b d hb hd h; omega
  · exact h
  · have := j.2.2.2.1 d b hd hb h; omega
theorem SJ_len (sj : SJ R A T w p0 U c l L0 v Nd X) (hm : ∀ x, As w U x → (mJs U w c l x).length ≤ 60) (b19 : 0 ≤ U 19 w ∧ U 19 w ≤ 120) : ∃ E, ML v (R 9) (insA [] (L0 ++ E)) ∧ E.Perm (Nd.flatMap (mJs U w c l) ++ X) ∧ (insA [] (L0 ++ E)).length ≤ 13000 := by
  obtain ⟨_, ⟨E, e1, e2⟩, ⟨n1, n2⟩, x1, x2⟩ := sj
  refine ⟨E, e1, e2, ?_⟩
  have a := flat_len (g := mJs U w c l) (n := 60) Nd (fun x hx => hm x (n2 x hx))
  have b := nodup_le n1 n2 b19
  have c := e2.length_eq
  rw [List.length_append] at c
  rw [insA_len, List.length_append]
  simp
  omega
/-- a frame that changes sums of statements and blocks, or mistakes -/
theorem SJ_fr {X' : Nat → Nat → Prop} (sj : SJ R A T w p0 U c l L0 v Nd X) (f : Fw X' v v') (hx : ∀ a k, X' a k → a < hN v.1 → XJ v T (R 9) a k) (hX : Y.length ≤ 2000) (m : ∃ E, ML v' (R 9) (insA [] (L0 ++ E)) ∧ E.Perm (Nd.flatMap (mJs U w c l) ++ Y)) : SJ R A T w p0 U c l L0 v' Nd Y := by
  obtain ⟨gu, _, nd, x1, x2⟩ := sj
  refine ⟨GU_a (z := hN v.1) (t0 := 0) gu f (fun a k y h => Or.inl (hx a k y h)) (fun s hs => Or.inl ⟨?_, by omega, rfl, rfl⟩) (fun m h0 h1 => ?_), m, nd, x1, hX⟩
  · have := (gu.2.2.2.2.1 s hs).1.1
    have := hK_lt (a := A 2 s) (h := v.1) rfl (by omega)
    omega
  · have mf := gu.2.2.1.2.2.2 m h0 h1
    have k9 := gu.2.2.2.1.2.2.2.2
    rw [(f.ff (k := 6) (hK_lt mf.1 (by decide)) (fun y => by
      have e := mf.1
      rcases hx _ _ y (hK_lt mf.1 (by decide)) with y | y | y | y | y | y | y | y
      · omega
      · omega
      · omega
      · omega
      · omega
      · omega
      · omega
      · omega)).2.2]
    exact mf.2.2.2.2.2.2.1
/-- a mistake more -/
theorem SJ_mi (sj : SJ R A T w p0 U c l L0 v Nd X) {xs : List tMi} {E : List tMi} (e2 : E.Perm (Nd.flatMap (mJs U w c l) ++ X)) (ml : ML v (R 9) (insA [] (L0 ++ E))) (f : Fw (fun b k => b = R 9 ∧ k = 99) v v') (m : MiA v v' (R 9) (insA [] (L0 ++ E)) xs) (hX : (X ++ xs).length ≤ 2000) : SJ R A T w p0 U c l L0 v' Nd (X ++ xs) ∧ RM (R 9) v v' (2 * xs.length) (3 * xs.length) ∧ Fw (XLk v) v v' ∧ JF A w U v v' (fun _ => False) (fun _ => False) := by
  have k9 := sj.1.2.2.2.1.2.2.2.2
  obtain ⟨m1, m2⟩ := ML_add ml m f.1
  refine ⟨SJ_fr sj f (fun a k y _ => Or.inr (Or.inr (Or.inr (Or.inr (Or.inr (Or.inr (Or.inl y))))))) hX ⟨E ++ xs, ?_, ?_⟩, m2, f.mono (fun a k y => Or.inl (by rw [y.1]; exact k9)), ?_, ?_⟩
  · rw [← List.append_assoc, insA_app]
    exact m1
  · rw [← List.append_assoc]
    exact List.Perm.append_right _ e2
  · intro k hk _
    have kb := (sj.1.2.2.2.2.2.1 k hk).1
    have q := fun j (hj : j ≠ 99) => (f.ff (k := j) (hK_lt kb (by decide)) (fun y => hj y.2)).1
    exact ⟨q 2 (by decide), q 3 (by decide)⟩
  · intro x hx _ _
    have kb := (sj.1.2.2.2.2.1 x hx).1.1
    have q := fun j (hj : j ≠ 99) => (f.ff (a := A 2 x) (k := j) (hK_lt rfl (by omega)) (fun y => hj y.2)).1
    exact ⟨q 3 (by decide), q 4 (by decide), q 11 (by decide)⟩
/-- a sum of a statement is set -/
theorem SJ_ps (sj : SJ R A T w p0 U c l L0 v Nd X) (hs : As w U s) (b19 : U 19 w ≤ 120) {k : Nat} {x : Int32} (hk : k = 3 ∨ k = 4 ∨ k = 11) : SJ R A T w p0 U c l L0 (vpI v (A 2 s) k x) Nd X ∧ RM (R 9) v (vpI v (A 2 s) k x) 0 0 ∧ Fw (XLk v) v (vpI v (A 2 s) k x) ∧ JF A w U v (vpI v (A 2 s) k x) (fun _ => False) (fun t => t = s) := by
  have ks := (sj.1.2.2.2.2.1 s hs).1.1
  have f : Fw (fun a j => a = A 2 s ∧ j = k) v (vpI v (A 2 s) k x) := Fw.refl.pI (Or.inr ⟨rfl, rfl⟩)
  have k9 := sj.1.2.2.2.1.2.2.2.2
  obtain ⟨E, e1, e2⟩ := sj.2.1
  refine ⟨SJ_fr sj f (fun a j y _ => Or.inl ⟨by rw [y.1]; exact ks.1, by rw [y.1]; exact ks.2, by rw [y.2]; exact hk⟩) sj.2.2.2.2 ⟨E, ML_fw f e1 (fun y => by rw [← y.1] at ks; omega) (fun a j y hj e => by rw [y.1] at e; omega), e2⟩, ⟨Nat.le_refl _, by show ((hN v.1 : Nat) : Int) ≤ _; omega, Nat.le_refl _, by show ((hS v.1 : Nat) : Int) + 4 * vCp v (R 9) ≤ hS v.1 + 4 * vCp v (R 9) + 0; omega, Nat.le_refl _⟩, f.mono (fun a j y => Or.inr (Or.inr (Or.inl (by rw [y.1]; exact ks)))), ?_, ?_⟩
  · intro d hd _
    have kb := (sj.1.2.2.2.2.2.1 d hd).1
    have q := fun j => (f.ff (k := j) (hK_lt kb (by decide)) (fun y => by rw [y.1] at kb; omega)).1
    exact ⟨q 2, q 3⟩
  · intro t ht _ ne
    have kb := (sj.1.2.2.2.2.1 t ht).1.1
    have q := fun j => (f.ff (a := A 2 t) (k := j) (hK_lt rfl (by omega)) (fun y => ne (A2_inj (fun k hk => (sj.1.2.2.2.2.1 k hk).1) b19 ht hs y.1))).1
    exact ⟨q 3, q 4, q 11⟩
/-- a sum of a block is set -/
theorem SJ_pb (j : JP w g U c l) (sj : SJ R A T w p0 U c l L0 v Nd X) (hb : Ab w U b) {k : Nat} {x : Int32} (hk : k = 2 ∨ k = 3) : SJ R A T w p0 U c l L0 (vpI v (A 3 b) k x) Nd X ∧ RM (R 9) v (vpI v (A 3 b) k x) 0 0 ∧ Fw (XLk v) v (vpI v (A 3 b) k x) ∧ JF A w U v (vpI v (A 3 b) k x) (fun d => d = b) (fun _ => False) ∧ ∀ t, As w U t → hI (vpI v (A 3 b) k x).1 (A 2 t) 3 = hI v.1 (A 2 t) 3 ∧ hI (vpI v (A 3 b) k x).1 (A 2 t) 4 = hI v.1 (A 2 t) 4 ∧ hI (vpI v (A 3 b) k x).1 (A 2 t) 11 = hI v.1 (A 2 t) 11 := by
  have kb := (sj.1.2.2.2.2.2.1 b hb).1
  have f : Fw (fun a j => a = A 3 b ∧ j = k) v (vpI v (A 3 b) k x) := Fw.refl.pI (Or.inr ⟨rfl, rfl⟩)
  have k9 := sj.1.2.2.2.1.2.2.2.2
  obtain ⟨E, e1, e2⟩ := sj.2.1
  refine ⟨SJ_fr sj f (fun a j y _ => Or.inr (Or.inl ⟨by rw [y.1]; exact kb, by rw [y.2]; exact hk⟩)) sj.2.2.2.2 ⟨E, ML_fw f e1 (fun y => by rw [← y.1] at kb; omega) (fun a j y hj e => by rw [y.1] at e; omega), e2⟩, ⟨Nat.le_refl _, by show ((hN v.1 : Nat) : Int) ≤ _; omega, Nat.le_refl _, by show ((hS v.1 : Nat) : Int) + 4 * vCp v (R 9) ≤ hS v.1 + 4 * vCp v (R 9) + 0; omega, Nat.le_refl _⟩, f.mono (fun a j y => Or.inr (Or.inr (Or.inr (Or.inl (by rw [y.1]; exact kb))))), ⟨?_, fun t ht _ _ => ?_⟩, fun t ht => ?_⟩
  · intro d hd ne
    have kd := (sj.1.2.2.2.2.2.1 d hd).1
    have q := fun i => (f.ff (k := i) (hK_lt kd (by decide)) (fun y => ne (A3_inj j sj.1.2.2.2.2.2.1 hd hb y.1))).1
    exact ⟨q 2, q 3⟩
  · have kt := (sj.1.2.2.2.2.1 t ht).1.1
    have q := fun i => (f.ff (a := A 2 t) (k := i) (hK_lt rfl (by omega)) (fun y => by rw [y.1] at kt; omega)).1
    exact ⟨q 3, q 4, q 11⟩
  · have kt := (sj.1.2.2.2.2.1 t ht).1.1
    have q := fun i => (f.ff (a := A 2 t) (k := i) (hK_lt rfl (by omega)) (fun y => by rw [y.1] at kt; omega)).1
    exact ⟨q 3, q 4, q 11⟩
/-- a statement is at its end -/
theorem SJ_end (sj : SJ R A T w p0 U c l L0 v Nd Y) (hs : As w U s) (ns : s ∉ Nd) (hY : Y.Perm (X ++ mJs U w c l s)) : SJ R A T w p0 U c l L0 v (Nd ++ [s]) X := by
  obtain ⟨gu, ⟨E, e1, e2⟩, ⟨n1, n2⟩, x1, x2⟩ := sj
  refine ⟨gu, ⟨E, e1, ?_⟩, ⟨?_, fun x hx => ?_⟩, x1, ?_⟩
  · refine e2.trans ?_
    rw [List.flatMap_append, List.flatMap_cons, List.flatMap_nil, List.append_nil, List.append_assoc]
    refine List.Perm.append_left _ (hY.trans ?_)
    exact List.perm_append_comm
  · rw [List.nodup_append]
    exact ⟨n1, by simp, fun a ha b hb e => ns (by simp at hb; rw [← hb, ← e]; exact ha)⟩
  · rcases List.mem_append.mp hx with h | h
    · exact n2 x h
    · simp at h
      rw [h]
      exact hs
  · have := hY.length_eq
    rw [List.length_append] at this
    omega
theorem SJ_perm (sj : SJ R A T w p0 U c l L0 v Nd Y) (hY : Y.Perm X) : SJ R A T w p0 U c l L0 v Nd X := by
  obtain ⟨gu, ⟨E, e1, e2⟩, nd, x1, x2⟩ := sj
  exact ⟨gu, ⟨E, e1, e2.trans (List.Perm.append_left _ hY)⟩, nd, x1, by rw [← hY.length_eq]; exact x2⟩
end JSS
