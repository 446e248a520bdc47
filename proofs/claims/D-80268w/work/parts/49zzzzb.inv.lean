/-! COMPONENT, 22: the invariant of reading *-/
/-- an open block -/
def opn (S : tSt) (b : Int) : Prop := ∃ i, 0 ≤ i ∧ i < S 55 0 ∧ S 56 i = b
/-- a statement that is not at its end: the one in hand, or one that a block is open of -/
def pnd (S U : tSt) (x s : Int) : Prop := s = x ∨ ∃ i, 0 ≤ i ∧ i < S 55 0 ∧ U 42 (S 56 i) = s
/-- mistakes that are found while a text is read: of a statement, of a method, of all -/
def mPs (U : tSt) (w s : Int) : List tMi :=
  if U 20 s = 2 then (if (pO U (U 25 s) (U 22 s)).1 = -1 ∧ kO U w (U 25 s) (U 26 s) = -1 then [(1, (U 26 s, -1))] else [])
  else if U 20 s = 3 then mSet U s (pO U (U 25 s) (U 22 s)).1 (pO U (U 25 s) (U 22 s)).2
  else if U 20 s = 9 then tCat (fun i => (if (pO U (U 35 (4 * s + i)) (U 22 s)).1 ≠ -1 then [(2, (U 36 (4 * s + i), -1))] else []) ++ tCat (fun k => if cK U w (4 * s + i) k = -1 then [(1, (U 39 (4 * (4 * s + i) + k), -1))] else []) (U 37 (4 * s + i)).toNat 0) (U 33 s).toNat 0
  else if U 20 s = 10 then tCat (fun k => if kO U w (U 31 (4 * s + k)) (U 32 (4 * s + k)) = -1 then [(1, (U 32 (4 * s + k), -1))] else []) (U 30 s).toNat 0
  else []
def mPm (U : tSt) (w m : Int) : List tMi :=
  (if mO U w (U 10 (w * 12 + m)) ≠ m then [(2, (U 11 (w * 12 + m), -1))] else []) ++ tCat (fun i => if kO U w (U 16 (4 * (w * 12 + m) + i)) (U 17 (4 * (w * 12 + m) + i)) = -1 then [(1, (U 17 (4 * (w * 12 + m) + i), -1))] else []) (U 15 (w * 12 + m)).toNat 0
def mPar (U : tSt) (w : Int) : List tMi := tCat (mKind U w) (U 3 w - 4).toNat 4 ++ (tCat (mPm U w) (U 9 w).toNat 0 ++ tCat (fun k => mPs U w (w * 120 + k)) (U 19 w).toNat 0)
/-- a list of numbers' objects -/
def IL (v : vT) (l : Nat) (N : List Int) : Prop := hK v.1 l = 4 ∧ (vLs v l).length = N.length ∧ ∀ i, i < N.length → ∃ e, (vLs v l).getD i none = some e ∧ isIg v e (N.getD i 0)
/-- throws of a parameter from outside of its lambda -/
def isO (U : tSt) (s : Int) : Bool := decide (U 20 s = 2) && decide ((pO U (U 25 s) (U 22 s)).1 ≠ -1) && (pO U (U 25 s) (U 22 s)).2
/-- the reader's own lists; R: addresses (0 reader 1 tape 2 wrong 3 unit 4 kinds 5 kindOf 6 methods 7 methodOf 8 statements 9 mistakes 10 calls 11 callPlaces 12 tries 13 throwing 14 throwPlaces) -/
def GL (R : Nat → Nat) (A : Nat → Int → Nat) (T : Nat → Nat) (w : Int) (v : vT) (U : tSt) : Prop :=
  (hR v.1 (R 3) 4 = some (R 8) ∧ hK v.1 (R 8) = 4 ∧ vLs v (R 8) = rowL (A 2) (w * 120) (U 19 w)) ∧
  (hR v.1 (R 0) 10 = some (R 10) ∧ hK v.1 (R 10) = 4 ∧ vLs v (R 10) = (stL U w (fun s => decide (U 20 s = 1))).map (fun s => some (A 2 s))) ∧
  (hR v.1 (R 0) 11 = some (R 11) ∧ IL v (R 11) ((stL U w (fun s => decide (U 20 s = 1))).map (U 26))) ∧
  (hR v.1 (R 0) 12 = some (R 12) ∧ hK v.1 (R 12) = 4 ∧ vLs v (R 12) = (stL U w (fun s => decide (U 20 s = 9))).map (fun s => some (A 2 s))) ∧
  (hR v.1 (R 0) 13 = some (R 13) ∧ hK v.1 (R 13) = 4 ∧ vLs v (R 13) = (stL U w (isO U)).map (fun s => some (A 2 s))) ∧
  (hR v.1 (R 0) 17 = some (R 14) ∧ IL v (R 14) ((stL U w (isO U)).map (U 26))) ∧
  (T (R 8) = 3 ∧ T (R 9) = 3 ∧ T (R 10) = 3 ∧ T (R 11) = 3 ∧ T (R 12) = 3 ∧ T (R 13) = 3 ∧ T (R 14) = 3) ∧
  (R 8 ≠ R 9 ∧ R 8 ≠ R 10 ∧ R 8 ≠ R 11 ∧ R 8 ≠ R 12 ∧ R 8 ≠ R 13 ∧ R 8 ≠ R 14 ∧ R 9 ≠ R 10 ∧ R 9 ≠ R 11 ∧ R 9 ≠ R 12 ∧ R 9 ≠ R 13 ∧ R 9 ≠ R 14) ∧
  (R 10 ≠ R 11 ∧ R 10 ≠ R 12 ∧ R 10 ≠ R 13 ∧ R 10 ≠ R 14 ∧ R 11 ≠ R 12 ∧ R 11 ≠ R 13 ∧ R 11 ≠ R 14 ∧ R 12 ≠ R 13 ∧ R 12 ≠ R 14 ∧ R 13 ≠ R 14)
/-- what every statement bears from its beginning -/
def ES (v : vT) (A : Nat → Int → Nat) (U : tSt) (w s : Int) : Prop :=
  (30 ≤ hK v.1 (A 2 s) ∧ hK v.1 (A 2 s) ≤ 38) ∧ hI v.1 (A 2 s) 0 = iI (s - w * 120) ∧ hI v.1 (A 2 s) 1 = iI (U 21 s) ∧ hR v.1 (A 2 s) 2 = some (A 1 (U 23 s))
def GI (R : Nat → Nat) (A : Nat → Int → Nat) (T : Nat → Nat) (w x p0 : Int) (v : vT) (S U : tSt) : Prop :=
  PT v (R 0) (R 1) (R 2) S ∧ RUn v (R 0) (R 3) (R 5) (R 9) ∧ KMp v (R 5) (A 0) U w p0 ∧ p0 ≤ S 47 0 ∧ (TG v T ∧ TZ v T) ∧ GL R A T w v U ∧
  (hR v.1 (R 0) 8 = some (A 1 (U 9 w - 1)) ∧ hK v.1 (A 1 (U 9 w - 1)) = 18 ∧ hI v.1 (R 0) 9 = iI (S 55 0)) ∧
  (∃ L, ML v (R 9) (insA [] L) ∧ L.Perm (mPar U w)) ∧
  (∀ s, As w U s → ES v A U w s) ∧ (∀ s, As w U s → ¬ pnd S U x s → FS v A T U w (fun _ => none) (fun _ => []) s) ∧
  (∀ b, Ab w U b → ¬ opn S b → FB v A T U w b) ∧
  (∀ s, As w U s → U 20 s = 5 ∨ U 20 s = 6 → LB v A T U w s) ∧
  (∀ c, As w U (c / 4) → c % 4 < U 33 (c / 4) → CF v A T U w c ∧ hI v.1 (A 4 c) 4 = bI (isS U w c = true) ∧ (¬ pnd S U x (c / 4) → hR v.1 (A 4 c) 3 = some (A 3 (U 34 c)))) ∧
  (∀ c d, As w U (c / 4) → c % 4 < U 33 (c / 4) → As w U (d / 4) → d % 4 < U 33 (d / 4) → A 4 c = A 4 d → c = d) ∧
  (∀ s t, As w U s → U 20 s = 5 ∨ U 20 s = 6 → As w U t → U 20 t = 5 ∨ U 20 t = 6 → A 5 s = A 5 t → s = t)
