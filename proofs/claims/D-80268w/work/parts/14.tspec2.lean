/-! THE TWIN IN PURE FUNCTIONS, 2: mistakes, walks -/
/-- a mistake: code, place, kind -/
abbrev tMi : Type := Int × (Int × Int)
def msLt (x y : tMi) : Bool := if x.2.1 ≠ y.2.1 then decide (x.2.1 < y.2.1) else if x.1 ≠ y.1 then decide (x.1 < y.1) else decide (x.2.2 < y.2.2)
/-- put in from the end: A turned about, B what is behind -/
def insR (x : tMi) : List tMi → List tMi → List tMi
  | [], B => x :: B
  | z :: A, B => if msLt x z = true then insR x A (z :: B) else A.reverse ++ z :: x :: B
def insM (x : tMi) (L : List tMi) : List tMi := insR x L.reverse []
def insA (L : List tMi) (xs : List tMi) : List tMi := xs.foldl (fun L x => insM x L) L
/-- the rows of mistakes hold a list -/
def mA (S : tSt) (L : List tMi) : tSt := fun f j => if 0 ≤ j ∧ j < L.length then (if f = 61 then (L.getD j.toNat (0, 0, 0)).1 else if f = 62 then (L.getD j.toNat (0, 0, 0)).2.1 else if f = 63 then (L.getD j.toNat (0, 0, 0)).2.2 else S f j) else S f j
def mP (S : tSt) (L : List tMi) : tSt := up (mA S L) 60 0 L.length
def tCat {α : Type} (g : Int → List α) (n : Nat) (i : Int) : List α := tFor (fun k L => L ++ g k) n i []
def mKind (U : tSt) (w k : Int) : List tMi :=
  (if kO U w (U 4 (w * 16 + k)) (U 5 (w * 16 + k)) ≠ -1 then [(2, U 5 (w * 16 + k), -1)] else []) ++ (if kO U w (U 7 (w * 16 + k)) (U 8 (w * 16 + k)) = -1 then [(1, U 8 (w * 16 + k), -1)] else [])
def mUnt (U : tSt) (w s t a : Int) : List tMi := tCat (fun k => if sHas s k = true ∧ chk U w k = true ∧ und U w k t = false then [(9, a, k)] else []) (U 3 w).toNat 0
def mTold (U : tSt) (w x v i : Int) : List tMi :=
  if kO U w (U 16 (4 * x + i)) (U 17 (4 * x + i)) = -1 then [(1, U 17 (4 * x + i), -1)]
  else if v ≠ -1 ∧ chk U w (kO U w (U 16 (4 * x + i)) (U 17 (4 * x + i))) = true ∧ und U w (kO U w (U 16 (4 * x + i)) (U 17 (4 * x + i))) (thO U w v) = false then [(10, U 17 (4 * x + i), kO U w (U 16 (4 * x + i)) (U 17 (4 * x + i)))] else []
def mOver (U : tSt) (w x : Int) : Int := if U 12 x = 0 then -1 else mO U w (U 12 x)
def mMeth (U : tSt) (w : Int) (c : Int → Int) (m : Int) : List tMi :=
  (if mO U w (U 10 (w * 12 + m)) ≠ m then [(2, U 11 (w * 12 + m), -1)] else []) ++ ((if U 12 (w * 12 + m) ≠ 0 ∧ mOver U w (w * 12 + m) = -1 then [(1, U 13 (w * 12 + m), -1)] else []) ++
  (tCat (mTold U w (w * 12 + m) (mOver U w (w * 12 + m))) (U 15 (w * 12 + m)).toNat 0 ++ mUnt U w (bC U w c (U 18 (w * 12 + m))) (thO U w m) (U 11 (w * 12 + m))))
def mCgt (U : tSt) (w i c k : Int) : List tMi :=
  if cK U w c k = -1 then [(1, U 39 (4 * c + k), -1)]
  else (if 1 < cK U w c k ∧ chk U w (cK U w c k) = true ∧ tFor (fun q a => a || (sHas i q && bel U w q (cK U w c k))) (U 3 w).toNat 0 (und U w (cK U w c k) i) = false then [(3, U 39 (4 * c + k), cK U w c k)] else []) ++
    ((if und U w (cK U w c k) (ahd U w c) = true then [(4, U 39 (4 * c + k), cK U w c k)] else []) ++
     (if tFor (fun j a => a || (decide (cK U w c j ≠ -1) && (bel U w (cK U w c k) (cK U w c j) || bel U w (cK U w c j) (cK U w c k)))) k.toNat 0 false = true then [(5, U 39 (4 * c + k), cK U w c k)] else []))
def mTry (U : tSt) (w : Int) (c : Int → Int) (s : Int) : List tMi :=
  tCat (fun k => if mO U w (U 31 (4 * s + k)) = -1 then [(1, U 32 (4 * s + k), -1)] else []) (U 30 s).toNat 0 ++
  tCat (fun i => (if (pO U (U 35 (4 * s + i)) (U 22 s)).1 ≠ -1 then [(2, U 36 (4 * s + i), -1)] else []) ++ tCat (mCgt U w (chO U w (ins U w c s)) (4 * s + i)) (U 37 (4 * s + i)).toNat 0) (U 33 s).toNat 0
def mSet (U : tSt) (s c : Int) (o : Bool) : List tMi := if c = -1 then [(1, U 26 s, -1)] else (if 1 < U 37 c then [(6, U 26 s, -1)] else []) ++ (if o = true then [(12, U 26 s, -1)] else [])
def mStm (U : tSt) (w : Int) (c l : Int → Int) (s : Int) : List tMi :=
  (if U 20 s = 1 then (if mO U w (U 25 s) = -1 then [(1, U 26 s, -1)] else if U 27 s ≠ -1 ∧ U 14 (w * 12 + mO U w (U 25 s)) = 0 then [(11, U 44 (U 27 s), -1)] else [])
   else if U 20 s = 2 then ((if (pO U (U 25 s) (U 22 s)).1 = -1 ∧ kO U w (U 25 s) (U 26 s) = -1 then [(1, U 26 s, -1)] else []) ++ (if (pO U (U 25 s) (U 22 s)).1 ≠ -1 ∧ (pO U (U 25 s) (U 22 s)).2 = true ∧ isS U w (pO U (U 25 s) (U 22 s)).1 = true then [(12, U 26 s, -1)] else []))
   else if U 20 s = 3 then mSet U s (pO U (U 25 s) (U 22 s)).1 (pO U (U 25 s) (U 22 s)).2
   else if U 20 s = 9 then mTry U w c s
   else if U 20 s = 10 then tCat (fun k => if kO U w (U 31 (4 * s + k)) (U 32 (4 * s + k)) = -1 then [(1, U 32 (4 * s + k), -1)] else []) (U 30 s).toNat 0 ++ mUnt U w (bC U w c (U 27 s)) (nmO U w s) (U 21 s)
   else if U 20 s = 7 then (if tgt U s = -1 then [(8, U 21 s, -1)] else []) else []) ++ (if U 24 s ≠ -1 ∧ l s = 0 then [(7, U 21 (U 24 s), -1)] else [])
def mAll (U : tSt) (w : Int) (c l : Int → Int) : List tMi :=
  tCat (mKind U w) (U 3 w - 4).toNat 4 ++ (tCat (mMeth U w c) (U 9 w).toNat 0 ++ tCat (fun k => mStm U w c l (w * 120 + k)) (U 19 w).toNat 0)
/-! judging: who can be left, from the last to the first; what can be thrown, again and again -/
def tLeft (U : tSt) (w : Int) : Nat → tSt → tSt
  | 0, S => S
  | d + 1, S => tLeft U w d (up (up S 59 (w * 120 + d) (if lvs U w (S 59) (w * 120 + d) = true then 1 else 0)) 58 (w * 120 + d) 0)
def tSwp (U : tSt) (w : Int) : Nat → tSt → Bool → tSt × Bool
  | 0, S, b => (S, b)
  | d + 1, S, b => tSwp U w d (up S 58 (w * 120 + d) (can U w (S 58) (S 59) (w * 120 + d))) (b || decide (can U w (S 58) (S 59) (w * 120 + d) ≠ S 58 (w * 120 + d)))
/-! walks -/
def dZ (z : Int64) : Int64 := z * 6364136223846793005 + 1442695040888963407
def tDrwS (S : tSt) : tSt := up S 64 0 (dZ (lI (S 64 0))).toInt
def tStpS (S : tSt) : tSt := up (up S 68 0 (if S 65 0 = 300 then 1 else 0)) 65 0 (if S 65 0 = 300 then S 65 0 else S 65 0 + 1)
def tPush (U : tSt) (b : Int) (S : tSt) : tSt := up (up (up S 70 (S 69 0) b) 71 (S 69 0) (U 45 b)) 69 0 (S 69 0 + 1)
def tThrw (k : Int) (S : tSt) : tSt := up (up S 66 0 1) 67 0 k
