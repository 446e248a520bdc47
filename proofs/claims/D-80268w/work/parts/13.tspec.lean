/-! THE TWIN IN PURE FUNCTIONS. S: scalars (S f 0) and single arrays, U: the arrays of two halves, w: the half in question. f is the field's number:
0 tape 1 size 2 w 3 kinds 4 kindWord 5 kindAt 6 kindFrom 7 belowWord 8 belowAt 9 methods 10 methodWord 11 methodAt 12 overWord 13 overAt 14 isFree 15 throwing 16 throwsWord 17 throwsAt 18 methodBlock
19 statements 20 sort 21 place 22 inBlock 23 inMethod 24 next 25 word 26 wordAt 27 block 28 other 29 last 30 names 31 nameWord 32 nameAt 33 catches 34 catchBlock 35 param 36 paramAt 37 caught 38 caughtWord 39 caughtAt
40 blocks 41 role 42 owner 43 which 44 from 45 start 46 end 47 pos 48 length 49 tokenAt 50 tokenWord 51 sign 52 wrong 53 name 54 at 55 depth 56 open 57 passed 58 can 59 left 60 mistakes 61 mistake 62 mistakeAt 63 mistakeKind
64 drawn 65 steps 66 signal 67 what 68 endless 69 frames 70 frameBlock 71 frameNext 72 frameSignal 73 frameWhat 74 value -/
abbrev tSt : Type := Nat → Int → Int
/-! tokens -/
def tSkip (t : Int → Int) : Nat → Int → Int
  | 0, p => p
  | d + 1, p => if t p = 32 ∨ t p = 10 then tSkip t d (p + 1) else p
def tEnd (t : Int → Int) : Nat → Int → Int
  | 0, p => p
  | d + 1, p => if 97 ≤ t p ∧ t p ≤ 122 then tEnd t d (p + 1) else p
def tAcc (t : Int → Int) : Nat → Int → Int64 → Int64
  | 0, _, x => x
  | d + 1, p, x => if 97 ≤ t p ∧ t p ≤ 122 then tAcc t d (p + 1) (x <<< ((iI 8).toInt64 &&& 63) ||| (iI (t p)).toInt64) else x
/-- a word as a number -/
def tWv (t : Int → Int) : Nat → Int → Int → Int
  | 0, _, x => x
  | d + 1, p, x => if 97 ≤ t p ∧ t p ≤ 122 then tWv t d (p + 1) (x * 256 + t p) else x
def tSgn (b : Int) : Bool := decide (b = 123 ∨ b = 125 ∨ b = 40 ∨ b = 41 ∨ b = 124 ∨ b = 59 ∨ b = 44)
def tkP (t : Int → Int) (n p : Int) : Int := tSkip t (n - p).toNat p
def tkE (t : Int → Int) (n p : Int) : Int := tEnd t (n - p).toNat p
def tkQ (t : Int → Int) (n p : Int) : Int := if p = n then p else if 97 ≤ t p ∧ t p ≤ 122 then tkE t n p else p + 1
def tkX (t : Int → Int) (n p : Int) : Int := if p = n then 0 else if 97 ≤ t p ∧ t p ≤ 122 then (if 8 < tkE t n p - p then 0 else tWv t (n - p).toNat p 0) else 0
def tkS (t : Int → Int) (n p : Int) : Int := if p = n then -1 else if 97 ≤ t p ∧ t p ≤ 122 then (if 8 < tkE t n p - p then -2 else 0) else if tSgn (t p) = true then t p else -2
def tTok (S : tSt) (p q x s : Int) : tSt := up (up (up (up S 47 0 q) 49 0 p) 50 0 x) 51 0 s
def tAdv (S : tSt) : tSt := tTok S (tkP (S 0) (S 48 0) (S 47 0)) (tkQ (S 0) (S 48 0) (tkP (S 0) (S 48 0) (S 47 0))) (tkX (S 0) (S 48 0) (tkP (S 0) (S 48 0) (S 47 0))) (tkS (S 0) (S 48 0) (tkP (S 0) (S 48 0) (S 47 0)))
def tFail (S : tSt) : tSt := up S 52 0 (if S 52 0 = -1 then S 49 0 else S 52 0)
def tTake (S : tSt) (s : Int) : tSt := if S 51 0 = s then tAdv S else tFail S
def wKind : Int := 0x6b696e64
def wBelow : Int := 0x62656c6f77
def wWay : Int := 0x776179
def wOver : Int := 0x6f766572
def wFree : Int := 0x66726565
def wThrows : Int := 0x7468726f7773
def wDo : Int := 0x646f
def wCall : Int := 0x63616c6c
def wThrow : Int := 0x7468726f77
def wSet : Int := 0x736574
def wIf : Int := 0x6966
def wElse : Int := 0x656c7365
def wWhile : Int := 0x7768696c65
def wLoop : Int := 0x6c6f6f70
def wBreak : Int := 0x627265616b
def wReturn : Int := 0x72657475726e
def wTry : Int := 0x747279
def wCatch : Int := 0x6361746368
def wFinally : Int := 0x66696e616c6c79
def wRun : Int := 0x72756e
def tKws : List Int := [wKind, wBelow, wWay, wOver, wFree, wThrows, wDo, wCall, wThrow, wSet, wIf, wElse, wWhile, wLoop, wBreak, wReturn, wTry, wCatch, wFinally, wRun]
def tKw (x : Int) : Bool := tKws.contains x
/-- a name is at hand -/
def tIsN (S : tSt) : Bool := decide (S 50 0 ≠ 0) && !tKw (S 50 0)
def tName (S : tSt) : tSt := if tIsN S = true then tAdv (up (up S 53 0 (S 50 0)) 54 0 (S 49 0)) else tFail S
def tWordT (S : tSt) (x : Int) : tSt := if S 50 0 = x then tAdv S else tFail S
/-! reading -/
def tClear (w : Int) (U : tSt) : tSt :=
  up (up (up (up (up (up (up (up (up (up (up (up (up (up (up (up U 3 w 4) 9 w 0) 19 w 0) 40 w 0) 4 (16 * w) 0x616c6c) 5 (16 * w) (-1)) 6 (16 * w) (-1)) 4 (16 * w + 1) 0x706c61696e) 5 (16 * w + 1) (-1)) 6 (16 * w + 1) (-1))
    4 (16 * w + 2) 0x6c6f6f7365) 5 (16 * w + 2) (-1)) 6 (16 * w + 2) (-1)) 4 (16 * w + 3) 0x6572726f72) 5 (16 * w + 3) (-1)) 6 (16 * w + 3) (-1)
def tKind3 (w : Int) (S U : tSt) : tSt × tSt := if S 51 0 = 59 then (tAdv S, up U 3 w (U 3 w + 1)) else (tFail S, U)
def tKind2 (w k : Int) (S U : tSt) : tSt × tSt :=
  if S 50 0 = wBelow then (if tIsN (tAdv S) = true then tKind3 w (tName (tAdv S)) (up (up (up U 7 k (tName (tAdv S) 53 0)) 8 k (tName (tAdv S) 54 0)) 6 k (tName (tAdv S) 49 0)) else (tFail (tAdv S), U))
  else (tFail S, U)
def tKind (w : Int) (S U : tSt) : tSt × tSt :=
  if U 3 w = 16 then (tFail S, U)
  else if tIsN (tAdv S) = true then tKind2 w (w * 16 + U 3 w) (tName (tAdv S)) (up (up U 4 (w * 16 + U 3 w) (tName (tAdv S) 53 0)) 5 (w * 16 + U 3 w) (tName (tAdv S) 54 0))
  else (tFail (tAdv S), U)
/-- a block may begin -/
def tIsO (S : tSt) : Bool := decide (S 51 0 = 123) && decide (S 55 0 ≠ 8)
def tOB (w : Int) (U : tSt) : Int := w * 1024 + U 40 w
def tOS (w : Int) (S U : tSt) : tSt := if tIsO S = true then tAdv (up (up S 56 (S 55 0) (tOB w U)) 55 0 (S 55 0 + 1)) else tFail S
def tOU (w what own num : Int) (S U : tSt) : tSt := if tIsO S = true then up (up (up (up (up (up (up U 40 w (U 40 w + 1)) 41 (tOB w U) what) 42 (tOB w U) own) 43 (tOB w U) num) 44 (tOB w U) (S 49 0)) 45 (tOB w U) (-1)) 46 (tOB w U) (-1) else U
def tOR (w : Int) (S U : tSt) : Int := if tIsO S = true then tOB w U else -1
/-- a block begins, field f of s names it -/
def tOpn (w what own num : Int) (f : Nat) (s : Int) (S U : tSt) : tSt × tSt := (tOS w S U, up (tOU w what own num S U) f s (tOR w S U))
/-- names behind 'throws' of a method -/
def tThr (x : Int) : Nat → tSt → tSt → Bool × (tSt × tSt)
  | 0, S, U => (false, (S, U))
  | d + 1, S, U =>
    if U 15 x = 4 then (false, (tFail (tAdv S), U))
    else if tIsN (tAdv S) = true then
      (if tName (tAdv S) 51 0 = 44 then tThr x d (tName (tAdv S)) (up (up (up U 16 (4 * x + U 15 x) (tName (tAdv S) 53 0)) 17 (4 * x + U 15 x) (tName (tAdv S) 54 0)) 15 x (U 15 x + 1))
       else (true, (tName (tAdv S), up (up (up U 16 (4 * x + U 15 x) (tName (tAdv S) 53 0)) 17 (4 * x + U 15 x) (tName (tAdv S) 54 0)) 15 x (U 15 x + 1))))
    else (false, (tFail (tAdv S), U))
def tWay4 (w x : Int) (S U : tSt) : tSt × tSt :=
  if S 51 0 = 59 then (tAdv S, up U 9 w (U 9 w + 1)) else tOpn w 0 (-1) (U 9 w + 1 - 1) 18 x S (up U 9 w (U 9 w + 1))
def tWay3 (w x : Int) (S U : tSt) : tSt × tSt :=
  if S 50 0 = wThrows then (if (tThr x 5 S U).1 = true then tWay4 w x (tThr x 5 S U).2.1 (tThr x 5 S U).2.2 else (tThr x 5 S U).2) else tWay4 w x S U
def tWay2 (w x : Int) (S U : tSt) : tSt × tSt :=
  if S 50 0 = wFree then tWay3 w x (tAdv S) (up U 14 x 1) else tWay3 w x S (up U 14 x 0)
def tWay1 (w x : Int) (S U : tSt) : tSt × tSt :=
  if S 50 0 = wOver then (if tIsN (tAdv S) = true then tWay2 w x (tName (tAdv S)) (up (up U 12 x (tName (tAdv S) 53 0)) 13 x (tName (tAdv S) 54 0)) else (tFail (tAdv S), U)) else tWay2 w x S U
def tWay (w : Int) (S U : tSt) : tSt × tSt :=
  if U 9 w = 12 then (tFail S, U)
  else if tIsN (tAdv S) = true then tWay1 w (w * 12 + U 9 w) (tName (tAdv S)) (up (up (up (up (up U 10 (w * 12 + U 9 w) (tName (tAdv S) 53 0)) 11 (w * 12 + U 9 w) (tName (tAdv S) 54 0)) 12 (w * 12 + U 9 w) 0) 15 (w * 12 + U 9 w) 0) 18 (w * 12 + U 9 w) (-1))
  else (tFail (tAdv S), U)
/-- names with commas between, up to a sign -/
def tNam (s u : Int) : Nat → tSt → tSt → Bool × (tSt × tSt)
  | 0, S, U => (false, (S, U))
  | d + 1, S, U =>
    if U 30 s = 4 then (false, (tFail (tAdv S), U))
    else if tIsN (tAdv S) = true then
      (if tName (tAdv S) 51 0 = 44 then tNam s u d (tName (tAdv S)) (up (up (up U 31 (4 * s + U 30 s) (tName (tAdv S) 53 0)) 32 (4 * s + U 30 s) (tName (tAdv S) 54 0)) 30 s (U 30 s + 1))
       else (decide (tName (tAdv S) 51 0 = u), (tTake (tName (tAdv S)) u, up (up (up U 31 (4 * s + U 30 s) (tName (tAdv S) 53 0)) 32 (4 * s + U 30 s) (tName (tAdv S) 54 0)) 30 s (U 30 s + 1))))
    else (false, (tFail (tAdv S), U))
def tBegins (S : tSt) : Bool := decide (S 51 0 = 123) || [wDo, wCall, wThrow, wSet, wIf, wWhile, wLoop, wBreak, wReturn, wTry, wRun].contains (S 50 0)
def tLink (s b : Int) (U : tSt) : tSt := if U 46 b = -1 then up (up U 45 b s) 46 b s else up (up U 24 (U 46 b) s) 46 b s
/-- a statement s is entered in block b -/
def tEnter (w s b : Int) (S U : tSt) : tSt :=
  tLink s b (up (up (up (up (up (up (up (up (up (up (up U 19 w (U 19 w + 1)) 21 s (S 49 0)) 22 s b) 23 s (U 9 w - 1)) 24 s (-1)) 25 s 0) 27 s (-1)) 28 s (-1)) 29 s (-1)) 30 s 0) 33 s 0)
def tStmt3 (w s x : Int) (S U : tSt) : tSt × tSt := if x = wCall ∧ S 51 0 = 123 then tOpn w 1 s 0 27 s S U else (tTake S 59, U)
def tStmt2 (w s x : Int) (S U : tSt) : tSt × tSt :=
  if x = wDo ∨ x = wBreak ∨ x = wReturn then (tTake S 59, up U 20 s (if x = wDo then 0 else if x = wBreak then 7 else 8))
  else if x = wThrow ∨ x = wSet ∨ x = wCall then
    (if tIsN S = true then tStmt3 w s x (tName S) (up (up (up U 20 s (if x = wThrow then 2 else if x = wSet then 3 else 1)) 25 s (tName S 53 0)) 26 s (tName S 54 0)) else (tFail S, up U 20 s (if x = wThrow then 2 else if x = wSet then 3 else 1)))
  else if x = wIf ∨ x = wRun then tOpn w (if x = wIf then 2 else 8) s 0 27 s S (up U 20 s (if x = wIf then 4 else 10))
  else if x = wWhile ∨ x = wLoop then tOpn w 4 s 0 27 s S (up U 20 s (if x = wWhile then 5 else 6))
  else if S 51 0 = 40 then (if (tNam s 41 5 S (up U 20 s 9)).1 = true then tOpn w 5 s 0 27 s (tNam s 41 5 S (up U 20 s 9)).2.1 (tNam s 41 5 S (up U 20 s 9)).2.2 else (tNam s 41 5 S (up U 20 s 9)).2)
  else tOpn w 5 s 0 27 s S (up U 20 s 9)
def tStmt (w : Int) (S U : tSt) : tSt × tSt :=
  if tBegins S = true ∧ U 19 w ≠ 120 then
    (if S 51 0 = 123 then tOpn w 9 (w * 120 + U 19 w) 0 27 (w * 120 + U 19 w) S (up (tEnter w (w * 120 + U 19 w) (S 56 (S 55 0 - 1)) S U) 20 (w * 120 + U 19 w) 11)
     else tStmt2 w (w * 120 + U 19 w) (S 50 0) (tAdv S) (tEnter w (w * 120 + U 19 w) (S 56 (S 55 0 - 1)) S U))
  else (tFail S, U)
/-- names in a catch, with bars between -/
def tCau (c : Int) : Nat → tSt → tSt → Bool × (tSt × tSt)
  | 0, S, U => (false, (S, U))
  | d + 1, S, U =>
    if U 37 c = 4 then (false, (tFail (tAdv S), U))
    else if tIsN (tAdv S) = true then
      (if tName (tAdv S) 51 0 = 124 then tCau c d (tName (tAdv S)) (up (up (up U 38 (4 * c + U 37 c) (tName (tAdv S) 53 0)) 39 (4 * c + U 37 c) (tName (tAdv S) 54 0)) 37 c (U 37 c + 1))
       else (true, (tName (tAdv S), up (up (up U 38 (4 * c + U 37 c) (tName (tAdv S) 53 0)) 39 (4 * c + U 37 c) (tName (tAdv S) 54 0)) 37 c (U 37 c + 1))))
    else (false, (tFail (tAdv S), U))
def tCatch3 (w s c : Int) (S U : tSt) : tSt × tSt :=
  if S 51 0 = 41 then tOpn w 6 s (U 33 s + 1 - 1) 34 c (tAdv S) (up U 33 s (U 33 s + 1)) else (tFail S, U)
def tCatch2 (w s c : Int) (S U : tSt) : tSt × tSt :=
  if tIsN S = true then tCatch3 w s c (tName S) (up (up U 35 c (tName S 53 0)) 36 c (tName S 54 0)) else (tFail S, U)
def tCatch (w s : Int) (S U : tSt) : tSt × tSt :=
  if U 33 s = 4 then (tFail S, U)
  else if tAdv S 51 0 = 40 then (if (tCau (4 * s + U 33 s) 5 (tAdv S) (up U 37 (4 * s + U 33 s) 0)).1 = true then tCatch2 w s (4 * s + U 33 s) (tCau (4 * s + U 33 s) 5 (tAdv S) (up U 37 (4 * s + U 33 s) 0)).2.1 (tCau (4 * s + U 33 s) 5 (tAdv S) (up U 37 (4 * s + U 33 s) 0)).2.2
    else (tCau (4 * s + U 33 s) 5 (tAdv S) (up U 37 (4 * s + U 33 s) 0)).2)
  else (tFail (tAdv S), up U 37 (4 * s + U 33 s) 0)
def tBehind (w s : Int) (body : Bool) (S U : tSt) : tSt × tSt :=
  if S 50 0 = wCatch then tCatch w s S U
  else if S 50 0 = wFinally then tOpn w 7 s 0 29 s (tAdv S) U
  else if body = true ∧ U 30 s = 0 then (tFail S, U) else (S, U)
/-- a block b of s is closed, what stands behind it at hand -/
def tShut (w b : Int) (S U : tSt) : tSt × tSt :=
  if U 41 b = 1 then (tTake S 59, U)
  else if U 41 b = 2 then (if S 50 0 = wElse then tOpn w 3 (U 42 b) 0 28 (U 42 b) (tAdv S) U else (S, U))
  else if U 41 b = 8 then (if S 50 0 = wThrows then (tNam (U 42 b) 59 5 S U).2 else (tTake S 59, U))
  else if U 41 b = 5 then tBehind w (U 42 b) true S U
  else if U 41 b = 6 then tBehind w (U 42 b) false S U
  else (S, U)
def tClose (w : Int) (S U : tSt) : tSt × tSt := tShut w (S 56 (S 55 0 - 1)) (tAdv (up S 55 0 (S 55 0 - 1))) U
def tStep (w : Int) (S U : tSt) : tSt × tSt :=
  if S 55 0 = 0 then (if S 50 0 = wKind then tKind w S U else if S 50 0 = wWay then tWay w S U else (tFail S, U))
  else if S 51 0 = 125 then tClose w S U else tStmt w S U
def tMore (S : tSt) : Bool := decide (S 52 0 = -1) && (decide (0 < S 55 0) || decide (S 51 0 ≠ -1))
def tRun (w : Int) : Nat → tSt → tSt → tSt × tSt
  | 0, S, U => (S, U)
  | n + 1, S, U => if tMore S = true then tRun w n (tStep w S U).1 (tStep w S U).2 else (S, U)
/-! what a name is -/
def tFor {α : Type} (f : Int → α → α) : Nat → Int → α → α
  | 0, _, a => a
  | d + 1, k, a => tFor f d (k + 1) (f k a)
def tFst (p : Int → Bool) : Nat → Int → Int
  | 0, _ => -1
  | d + 1, k => if p k = true then k else tFst p d (k + 1)
def kO (U : tSt) (w x a : Int) : Int := tFst (fun k => decide (U 4 (w * 16 + k) = x) && decide (U 6 (w * 16 + k) < a)) (U 3 w).toNat 0
def mO (U : tSt) (w x : Int) : Int := tFst (fun k => decide (U 10 (w * 12 + k) = x)) (U 9 w).toNat 0
def tPO (U : tSt) (x : Int) : Nat → Int → Bool → Int × Bool
  | 0, _, p => (-1, p)
  | d + 1, b, p => if b = -1 then (-1, p) else if U 41 b = 6 ∧ U 35 (4 * U 42 b + U 43 b) = x then (4 * U 42 b + U 43 b, p)
    else tPO U x d (if U 42 b = -1 then -1 else U 22 (U 42 b)) (p || decide (U 41 b = 1) || decide (U 41 b = 8))
def pO (U : tSt) (x b : Int) : Int × Bool := tPO U x (b + 2).toNat b false
def par (U : tSt) (w k : Int) : Int := if k < 4 then (if k = 0 then -1 else if k = 2 then 1 else 0) else if kO U w (U 7 (w * 16 + k)) (U 8 (w * 16 + k)) = -1 then 1 else kO U w (U 7 (w * 16 + k)) (U 8 (w * 16 + k))
def tBel (U : tSt) (w b : Int) : Nat → Int → Bool
  | 0, _ => false
  | d + 1, k => if k = -1 then false else if k = b then true else tBel U w b d (par U w k)
def bel (U : tSt) (w a b : Int) : Bool := tBel U w b (a + 2).toNat a
def chk (U : tSt) (w k : Int) : Bool := !bel U w k 2 && !bel U w k 3
def thO (U : tSt) (w m : Int) : Int := if m = -1 then 0 else tFor (fun k a => sOr a (sOnly (kO U w (U 16 (4 * (w * 12 + m) + k)) (U 17 (4 * (w * 12 + m) + k))))) (U 15 (w * 12 + m)).toNat 0 0
def nmO (U : tSt) (w s : Int) : Int := tFor (fun k a => sOr a (if U 20 s = 9 then thO U w (mO U w (U 31 (4 * s + k))) else sOnly (kO U w (U 31 (4 * s + k)) (U 32 (4 * s + k))))) (U 30 s).toNat 0 0
def cK (U : tSt) (w c k : Int) : Int := kO U w (U 38 (4 * c + k)) (U 39 (4 * c + k))
def cBy (U : tSt) (w c : Int) : Int := tFor (fun k a => sOr a (sOnly (cK U w c k))) (U 37 c).toNat 0 0
def und (U : tSt) (w k s : Int) : Bool := tFor (fun q a => a || (sHas s q && bel U w k q)) (U 3 w).toNat 0 false
def wout (U : tSt) (w s o : Int) : Int := tFor (fun k a => sOr a (if sHas s k = true ∧ und U w k o = false then sOnly k else 0)) (U 3 w).toNat 0 0
/-! what can be thrown, what can be left; c: what the statements can throw, l: which can be left -/
def tCh (U : tSt) (c : Int → Int) : Nat → Int → Int → Int
  | 0, _, a => a
  | d + 1, s, a => if s = -1 then a else tCh U c d (U 24 s) (sOr a (c s))
def bC (U : tSt) (w : Int) (c : Int → Int) (b : Int) : Int := if b = -1 then 0 else tCh U c (121 + (w * 120).toNat) (U 45 b) 0
def isL (U : tSt) (l : Int → Int) (b : Int) : Bool := decide (b ≠ -1) && (decide (U 46 b = -1) || decide (l (U 46 b) ≠ 0))
def ins (U : tSt) (w : Int) (c : Int → Int) (s : Int) : Int := sOr (bC U w c (U 27 s)) (nmO U w s)
def ahd (U : tSt) (w c : Int) : Int := tFor (fun k a => sOr a (cBy U w k)) (c - c / 4 * 4).toNat (c / 4 * 4) 0
def isS (U : tSt) (w c : Int) : Bool := tFor (fun k a => a || (decide (U 20 (w * 120 + k) = 3) && decide ((pO U (U 25 (w * 120 + k)) (U 22 (w * 120 + k))).1 = c))) (U 19 w).toNat 0 false
def agn (U : tSt) (w : Int) (cn : Int → Int) (c : Int) : Int :=
  tFor (fun k a => tFor (fun q a => if sHas (wout U w (sOr (ins U w cn (c / 4)) 12) (ahd U w c)) k = true ∧ sHas (cBy U w c) q = true then sOr a (if bel U w k q = true then sOnly k else if bel U w q k = true then sOnly q else 0) else a) (U 3 w).toNat 0 a) (U 3 w).toNat 0 0
def chO (U : tSt) (w s : Int) : Int := tFor (fun k a => sOr a (if sHas s k = true ∧ chk U w k = true then sOnly k else 0)) (U 3 w).toNat 0 0
def ovr (U : tSt) (w s : Int) : Int := tFor (fun k a => if tFor (fun q z => z && (!sHas s q || bel U w q k)) (U 3 w).toNat 0 (bel U w k a) = true then k else a) (U 3 w - 1).toNat 1 0
def cld (U : tSt) (w : Int) (c : Int → Int) (s : Int) : Int :=
  if mO U w (U 25 s) ≠ -1 ∧ U 14 (w * 12 + mO U w (U 25 s)) ≠ 0 then sOr (thO U w (mO U w (U 25 s))) (sOnly (if chO U w (bC U w c (U 27 s)) = 0 then 2 else ovr U w (chO U w (bC U w c (U 27 s)))))
  else thO U w (mO U w (U 25 s))
def thn (U : tSt) (w : Int) (c : Int → Int) (s : Int) : Int :=
  if (pO U (U 25 s) (U 22 s)).1 = -1 then sOnly (kO U w (U 25 s) (U 26 s)) else if isS U w (pO U (U 25 s) (U 22 s)).1 = true then cBy U w (pO U (U 25 s) (U 22 s)).1 else agn U w c (pO U (U 25 s) (U 22 s)).1
def trA (U : tSt) (w s : Int) : Int := tFor (fun k a => sOr a (cBy U w (4 * s + k))) (U 33 s).toNat 0 0
def trM (U : tSt) (w : Int) (c : Int → Int) (s : Int) : Int := tFor (fun k a => sOr a (bC U w c (U 34 (4 * s + k)))) (U 33 s).toNat 0 0
def trd (U : tSt) (w : Int) (c l : Int → Int) (s : Int) : Int :=
  if U 29 s = -1 then sOr (wout U w (ins U w c s) (trA U w s)) (trM U w c s) else if isL U l (U 29 s) = true then sOr (sOr (wout U w (ins U w c s) (trA U w s)) (trM U w c s)) (bC U w c (U 29 s)) else bC U w c (U 29 s)
def can (U : tSt) (w : Int) (c l : Int → Int) (s : Int) : Int :=
  if U 20 s = 1 then cld U w c s else if U 20 s = 2 then thn U w c s else if U 20 s = 4 ∨ U 20 s = 5 ∨ U 20 s = 6 ∨ U 20 s = 11 then sOr (bC U w c (U 27 s)) (bC U w c (U 28 s)) else if U 20 s = 9 then trd U w c l s else 0
def tTg (U : tSt) : Nat → Int → Int
  | 0, _ => -1
  | d + 1, b => if U 41 b = 0 ∨ U 41 b = 1 ∨ U 41 b = 8 then -1 else if U 41 b = 4 then U 42 b else tTg U d (U 22 (U 42 b))
def tgt (U : tSt) (s : Int) : Int := tTg U (U 22 s + 2).toNat (U 22 s)
def tHd (U : tSt) (l : Int → Int) (lp : Int) : Nat → Int → Bool → Bool
  | 0, _, a => a
  | d + 1, b, a => if U 42 b = lp then a else tHd U l lp d (U 22 (U 42 b)) (a || (decide (U 20 (U 42 b) = 9) && decide (U 41 b ≠ 7) && decide (U 29 (U 42 b) ≠ -1) && !isL U l (U 29 (U 42 b))))
def hld (U : tSt) (l : Int → Int) (s lp : Int) : Bool := tHd U l lp (U 22 s + 2).toNat (U 22 s) false
def lvs (U : tSt) (w : Int) (l : Int → Int) (s : Int) : Bool :=
  if U 20 s = 2 ∨ U 20 s = 7 ∨ U 20 s = 8 then false
  else if U 20 s = 4 then decide (U 28 s = -1) || isL U l (U 27 s) || isL U l (U 28 s)
  else if U 20 s = 6 then tFor (fun k a => a || (decide (U 20 (w * 120 + k) = 7) && decide (tgt U (w * 120 + k) = s) && !hld U l (w * 120 + k) s)) (U 19 w).toNat 0 false
  else if U 20 s = 9 then tFor (fun k a => a || isL U l (U 34 (4 * s + k))) (U 33 s).toNat 0 (isL U l (U 27 s)) && (decide (U 29 s = -1) || isL U l (U 29 s))
  else if U 20 s = 11 then isL U l (U 27 s) else true
