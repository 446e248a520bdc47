/-! THE ABSTRACT MACHINE: values, a typed heap of maps, frames, instructions, the fuelled run -/
abbrev am_V : Type := Int32 ⊕ (Int64 ⊕ (Option Nat ⊕ UInt32))
abbrev vI (x : Int32) : am_V := Sum.inl x
abbrev vL (x : Int64) : am_V := Sum.inr (Sum.inl x)
abbrev vR (x : Option Nat) : am_V := Sum.inr (Sum.inr (Sum.inl x))
abbrev vF (x : UInt32) : am_V := Sum.inr (Sum.inr (Sum.inr x))
/-- size and slots used, constants' addresses; kinds and lengths; ints; longs; references -/
def am_H : Type := (Nat × (Nat × (Nat → Nat))) × ((Nat → Nat) × (Nat → Nat)) × (Nat → Nat → Int32) × (Nat → Nat → Int64) × (Nat → Nat → Option Nat)
def hN (h : am_H) : Nat := h.1.1
def hS (h : am_H) : Nat := h.1.2.1
/-- the address of a constant -/
def hE (h : am_H) (k : Nat) : Nat := h.1.2.2 k
/-- the kind of a cell; 0: no cell -/
def hK (h : am_H) (a : Nat) : Nat := if a < h.1.1 then h.2.1.1 a else 0
def hL (h : am_H) (a : Nat) : Nat := h.2.1.2 a
def hI (h : am_H) (a k : Nat) : Int32 := h.2.2.1 a k
def hJ (h : am_H) (a k : Nat) : Int64 := h.2.2.2.1 a k
def hR (h : am_H) (a k : Nat) : Option Nat := h.2.2.2.2 a k
def am_u {α : Type} (f : Nat → Nat → α) (a k : Nat) (x : α) : Nat → Nat → α := fun b j => if b = a ∧ j = k then x else f b j
def am_n {α : Type} (f : Nat → Nat → α) (a : Nat) (x : α) : Nat → Nat → α := fun b j => if b = a then x else f b j
def putI (h : am_H) (a k : Nat) (x : Int32) : am_H := (h.1, h.2.1, am_u h.2.2.1 a k x, h.2.2.2.1, h.2.2.2.2)
def putJ (h : am_H) (a k : Nat) (x : Int64) : am_H := (h.1, h.2.1, h.2.2.1, am_u h.2.2.2.1 a k x, h.2.2.2.2)
def putR (h : am_H) (a k : Nat) (x : Option Nat) : am_H := (h.1, h.2.1, h.2.2.1, h.2.2.2.1, am_u h.2.2.2.2 a k x)
/-- a new cell of a kind, of n places -/
def newC (h : am_H) (c n : Nat) : am_H :=
  ((h.1.1 + 1, (h.1.2.1 + n, h.1.2.2)), (fun b => if b = h.1.1 then c else h.2.1.1 b, fun b => if b = h.1.1 then n else h.2.1.2 b), am_n h.2.2.1 h.1.1 0, am_n h.2.2.2.1 h.1.1 0, am_n h.2.2.2.2 h.1.1 none)
/-- n ints, references of one cell copied into another (the source read first) -/
def cpyI (h : am_H) (a i b j n : Nat) : am_H := (h.1, h.2.1, (fun c k => if c = b ∧ j ≤ k ∧ k < j + n then h.2.2.1 a (i + (k - j)) else h.2.2.1 c k), h.2.2.2.1, h.2.2.2.2)
def cpyR (h : am_H) (a i b j n : Nat) : am_H := (h.1, h.2.1, h.2.2.1, h.2.2.2.1, (fun c k => if c = b ∧ j ≤ k ∧ k < j + n then h.2.2.2.2 a (i + (k - j)) else h.2.2.2.2 c k))
section HL
variable {h : am_H} {a b k j c n i l : Nat} {x : Int32} {y : Int64} {z : Option Nat}
theorem hN_putI : hN (putI h a k x) = hN h := rfl
theorem hN_putJ : hN (putJ h a k y) = hN h := rfl
theorem hN_putR : hN (putR h a k z) = hN h := rfl
theorem hN_cpyI : hN (cpyI h a i b j n) = hN h := rfl
theorem hN_cpyR : hN (cpyR h a i b j n) = hN h := rfl
theorem hN_newC : hN (newC h c n) = hN h + 1 := rfl
theorem hS_putI : hS (putI h a k x) = hS h := rfl
theorem hS_putJ : hS (putJ h a k y) = hS h := rfl
theorem hS_putR : hS (putR h a k z) = hS h := rfl
theorem hS_cpyI : hS (cpyI h a i b j n) = hS h := rfl
theorem hS_cpyR : hS (cpyR h a i b j n) = hS h := rfl
theorem hS_newC : hS (newC h c n) = hS h + n := rfl
theorem hE_putI : hE (putI h a k x) l = hE h l := rfl
theorem hE_putJ : hE (putJ h a k y) l = hE h l := rfl
theorem hE_putR : hE (putR h a k z) l = hE h l := rfl
theorem hE_cpyI : hE (cpyI h a i b j n) l = hE h l := rfl
theorem hE_cpyR : hE (cpyR h a i b j n) l = hE h l := rfl
theorem hE_newC : hE (newC h c n) l = hE h l := rfl
theorem hK_putI : hK (putI h a k x) b = hK h b := rfl
theorem hK_putJ : hK (putJ h a k y) b = hK h b := rfl
theorem hK_putR : hK (putR h a k z) b = hK h b := rfl
theorem hK_cpyI : hK (cpyI h a i b j n) l = hK h l := rfl
theorem hK_cpyR : hK (cpyR h a i b j n) l = hK h l := rfl
theorem hK_newC : hK (newC h c n) b = if b = hN h then c else hK h b := by
  show (if b < h.1.1 + 1 then (if b = h.1.1 then c else h.2.1.1 b) else 0) = if b = h.1.1 then c else if b < h.1.1 then h.2.1.1 b else 0
  by_cases h1 : b = h.1.1
  · rw [if_pos h1, if_pos h1, if_pos (by omega)]
  · by_cases h2 : b < h.1.1
    · rw [if_neg h1, if_neg h1, if_pos h2, if_pos (by omega)]
    · rw [if_neg (by omega), if_neg h1, if_neg h2]
theorem hL_putI : hL (putI h a k x) b = hL h b := rfl
theorem hL_putJ : hL (putJ h a k y) b = hL h b := rfl
theorem hL_putR : hL (putR h a k z) b = hL h b := rfl
theorem hL_cpyI : hL (cpyI h a i b j n) l = hL h l := rfl
theorem hL_cpyR : hL (cpyR h a i b j n) l = hL h l := rfl
theorem hL_newC : hL (newC h c n) b = if b = hN h then n else hL h b := rfl
theorem hI_putI : hI (putI h a k x) b j = if b = a ∧ j = k then x else hI h b j := rfl
theorem hI_putJ : hI (putJ h a k y) b j = hI h b j := rfl
theorem hI_putR : hI (putR h a k z) b j = hI h b j := rfl
theorem hI_cpyI : hI (cpyI h a i b j n) l k = if l = b ∧ j ≤ k ∧ k < j + n then hI h a (i + (k - j)) else hI h l k := rfl
theorem hI_cpyR : hI (cpyR h a i b j n) l k = hI h l k := rfl
theorem hI_newC : hI (newC h c n) b j = if b = hN h then 0 else hI h b j := rfl
theorem hJ_putI : hJ (putI h a k x) b j = hJ h b j := rfl
theorem hJ_putJ : hJ (putJ h a k y) b j = if b = a ∧ j = k then y else hJ h b j := rfl
theorem hJ_putR : hJ (putR h a k z) b j = hJ h b j := rfl
theorem hJ_cpyI : hJ (cpyI h a i b j n) l k = hJ h l k := rfl
theorem hJ_cpyR : hJ (cpyR h a i b j n) l k = hJ h l k := rfl
theorem hJ_newC : hJ (newC h c n) b j = if b = hN h then 0 else hJ h b j := rfl
theorem hR_putI : hR (putI h a k x) b j = hR h b j := rfl
theorem hR_putJ : hR (putJ h a k y) b j = hR h b j := rfl
theorem hR_putR : hR (putR h a k z) b j = if b = a ∧ j = k then z else hR h b j := rfl
theorem hR_cpyI : hR (cpyI h a i b j n) l k = hR h l k := rfl
theorem hR_cpyR : hR (cpyR h a i b j n) l k = if l = b ∧ j ≤ k ∧ k < j + n then hR h a (i + (k - j)) else hR h l k := rfl
theorem hR_newC : hR (newC h c n) b j = if b = hN h then none else hR h b j := rfl
theorem hK_lt (e : hK h a = c) (hc : c ≠ 0) : a < hN h := by
  unfold hK at e
  by_cases h1 : a < h.1.1
  · exact h1
  · rw [if_neg h1] at e; exact absurd e.symm hc
theorem hK_ne (e : hK h a = c) (hc : c ≠ 0) : a ≠ hN h := Nat.ne_of_lt (hK_lt e hc)
end HL
/-- what a method ends with: a value or none, or a thrown object -/
abbrev am_O : Type := Option am_V ⊕ Nat
/-- pc, places for locals, operand stack -/
abbrev am_F : Type := Nat × (List (Option am_V) × List am_V)
/-- an instruction: the machine's own, its length, operands found by the printing program, a table -/
abbrev am_I : Type := Instr × (Nat × (List Nat × List (Nat × Nat)))
/-- a step's end: a frame and a heap; the method's end; a call (which method, with what, what stays on the stack) -/
abbrev am_S : Type := (am_F × am_H) ⊕ ((am_O × am_H) ⊕ (Nat × (List am_V × List am_V)))
/-- a method: places for locals, level, code -/
abbrev am_M : Type := Nat × (Nat × (Nat → Option am_I))
def am_slots : List am_V → List (Option am_V)
  | [] => []
  | .inl x :: l => some (.inl x) :: am_slots l
  | .inr (.inl y) :: l => some (.inr (.inl y)) :: none :: am_slots l
  | .inr (.inr z) :: l => some (.inr (.inr z)) :: am_slots l
def am_pad (n : Nat) (l : List (Option am_V)) : List (Option am_V) := l ++ List.replicate (n - l.length) none
/-- the room's count at a call: one less where the call may recur, else a lower level -/
def am_deep (b : Bool) (r lvl lvl' : Nat) : Option Nat := match b with
  | true => match r with
    | 0 => none
    | r + 1 => some r
  | false => match Nat.blt lvl' lvl with
    | true => some r
    | false => none
def am_wrong : Nat := 3
def am_nx (fr : am_F) (h : am_H) (len : Nat) (st : List am_V) : Option am_S := some (Sum.inl ((fr.1 + len, (fr.2.1, st)), h))
def am_jp (fr : am_F) (h : am_H) (pc : Nat) (st : List am_V) : Option am_S := some (Sum.inl ((pc, (fr.2.1, st)), h))
def am_sv (fr : am_F) (h : am_H) (len : Nat) (ls : List (Option am_V)) (st : List am_V) : Option am_S := some (Sum.inl ((fr.1 + len, (ls, st)), h))
def am_iload (fr : am_F) (h : am_H) (len i : Nat) : Option am_S := match fr.2.1[i]? with
  | some (some (.inl x)) => am_nx fr h len (.inl x :: fr.2.2)
  | _ => none
def am_lload (fr : am_F) (h : am_H) (len i : Nat) : Option am_S := match fr.2.1[i]? with
  | some (some (.inr (.inl x))) => am_nx fr h len (.inr (.inl x) :: fr.2.2)
  | _ => none
def am_aload (fr : am_F) (h : am_H) (len i : Nat) : Option am_S := match fr.2.1[i]? with
  | some (some (.inr (.inr (.inl x)))) => am_nx fr h len (.inr (.inr (.inl x)) :: fr.2.2)
  | _ => none
/-- a place is written; where the one below may be a long's first half, that one is forgotten -/
def am_put1 (o : List Nat) (ls : List (Option am_V)) (i : Nat) (v : am_V) : List (Option am_V) := match o with
  | [] => ls.set i (some v)
  | _ => (ls.set (i - 1) none).set i (some v)
def am_put2 (o : List Nat) (ls : List (Option am_V)) (i : Nat) (v : am_V) : List (Option am_V) := match o with
  | [] => (ls.set i (some v)).set (i + 1) none
  | _ => ((ls.set (i - 1) none).set i (some v)).set (i + 1) none
def am_istore (o : List Nat) (fr : am_F) (h : am_H) (len i : Nat) : Option am_S := match fr.2.2 with
  | .inl x :: st => am_sv fr h len (am_put1 o fr.2.1 i (.inl x)) st
  | _ => none
def am_astore (o : List Nat) (fr : am_F) (h : am_H) (len i : Nat) : Option am_S := match fr.2.2 with
  | .inr (.inr (.inl x)) :: st => am_sv fr h len (am_put1 o fr.2.1 i (.inr (.inr (.inl x)))) st
  | _ => none
def am_lstore (o : List Nat) (fr : am_F) (h : am_H) (len i : Nat) : Option am_S := match fr.2.2 with
  | .inr (.inl x) :: st => am_sv fr h len (am_put2 o fr.2.1 i (.inr (.inl x))) st
  | _ => none
def am_ib (fr : am_F) (h : am_H) (f : Int32 → Int32 → Int32) : Option am_S := match fr.2.2 with
  | .inl y :: .inl x :: st => am_nx fr h 1 (.inl (f x y) :: st)
  | _ => none
def am_lb (fr : am_F) (h : am_H) (f : Int64 → Int64 → Int64) : Option am_S := match fr.2.2 with
  | .inr (.inl y) :: .inr (.inl x) :: st => am_nx fr h 1 (.inr (.inl (f x y)) :: st)
  | _ => none
def am_iu (fr : am_F) (h : am_H) (f : Int32 → am_V) : Option am_S := match fr.2.2 with
  | .inl x :: st => am_nx fr h 1 (f x :: st)
  | _ => none
def am_if (fr : am_F) (h : am_H) (o : List Nat) (c : Prop) [Decidable c] (st : List am_V) : Option am_S := match o with
  | t :: _ => if c then am_jp fr h t st else am_nx fr h 3 st
  | [] => none
def am_if1 (fr : am_F) (h : am_H) (o : List Nat) (c : Int32 → Prop) [DecidablePred c] : Option am_S := match fr.2.2 with
  | .inl x :: st => am_if fr h o (c x) st
  | _ => none
def am_if2 (fr : am_F) (h : am_H) (o : List Nat) (c : Int32 → Int32 → Prop) [∀ x y, Decidable (c x y)] : Option am_S := match fr.2.2 with
  | .inl y :: .inl x :: st => am_if fr h o (c x y) st
  | _ => none
def am_sw (x : Int32) : List (Nat × Nat) → Nat → Nat
  | [], d => d
  | (v, t) :: l, d => if x = Int32.ofNat v then t else am_sw x l d
/-- 0: the value is no long (one place on the stack) -/
def am_c1 : am_V → Bool
  | .inr (.inl _) => false
  | _ => true
def am_cats : List am_V → Nat
  | [] => 0
  | .inr (.inl _) :: l => am_cats l + 2
  | _ :: l => am_cats l + 1
/-- does an int fit a field's or array's type: 0 int, 4 boolean, 5 byte, 6 char -/
def am_fit (t : Nat) (x : Int32) : Bool := match t with
  | 0 => true
  | 4 => decide (x = 0 ∨ x = 1)
  | 5 => decide (x.toInt8.toInt32 = x)
  | 6 => decide ((x.toUInt32 % 65536).toInt32 = x)
  | _ => false
def am_getf (fr : am_F) (h : am_H) (o : List Nat) : Option am_S := match o, fr.2.2 with
  | [lo, hi, k, t], .inr (.inr (.inl (some a))) :: st =>
    if lo ≤ hK h a ∧ hK h a ≤ hi then
      match t with
      | 0 => am_nx fr h 3 (.inl (hI h a k) :: st)
      | 1 => am_nx fr h 3 (.inr (.inl (hJ h a k)) :: st)
      | 2 => am_nx fr h 3 (.inr (.inr (.inl (hR h a k))) :: st)
      | _ => none
    else none
  | _, _ => none
def am_putf (fr : am_F) (h : am_H) (o : List Nat) : Option am_S := match o, fr.2.2 with
  | [lo, hi, k, t], v :: .inr (.inr (.inl (some a))) :: st =>
    if lo ≤ hK h a ∧ hK h a ≤ hi then
      match v with
      | .inl x => if am_fit t x = true then am_nx fr (putI h a k x) 3 st else none
      | .inr (.inl x) => if t = 1 then am_nx fr (putJ h a k x) 3 st else none
      | .inr (.inr (.inl x)) => if t = 2 then am_nx fr (putR h a k x) 3 st else none
      | .inr (.inr (.inr _)) => if t = 3 then am_nx fr h 3 st else none
    else none
  | _, _ => none
/-- a place in an array's range -/
def am_in (i : Int32) (n : Nat) : Prop := ¬ (i < 0 ∨ n ≤ i.toNatClampNeg)
def am_ald (fr : am_F) (h : am_H) (lo hi : Nat) (f : Nat → Nat → am_V) : Option am_S := match fr.2.2 with
  | .inl i :: .inr (.inr (.inl (some a))) :: st =>
    if lo ≤ hK h a ∧ hK h a ≤ hi then
      if i < 0 ∨ hL h a ≤ i.toNatClampNeg then none else am_nx fr h 1 (f a i.toNatClampNeg :: st)
    else none
  | _ => none
def am_iast (fr : am_F) (h : am_H) (c t : Nat) : Option am_S := match fr.2.2 with
  | .inl x :: .inl i :: .inr (.inr (.inl (some a))) :: st =>
    if hK h a = c then
      if am_fit t x = true then
        if i < 0 ∨ hL h a ≤ i.toNatClampNeg then none else am_nx fr (putI h a i.toNatClampNeg x) 1 st
      else none
    else none
  | _ => none
def am_last (fr : am_F) (h : am_H) : Option am_S := match fr.2.2 with
  | .inr (.inl x) :: .inl i :: .inr (.inr (.inl (some a))) :: st =>
    if hK h a = 42 then
      if i < 0 ∨ hL h a ≤ i.toNatClampNeg then none else am_nx fr (putJ h a i.toNatClampNeg x) 1 st
    else none
  | _ => none
/-- may a reference be stored in an array of references: any cell in an Object[] (46), nodes in a Node[] (48) -/
def am_aok (h : am_H) (c : Nat) (x : Option Nat) : Prop := match x with
  | none => True
  | some b => (c = 46 ∧ 0 < hK h b ∧ hK h b < 40) ∨ (c = 48 ∧ 12 ≤ hK h b ∧ hK h b ≤ 13)
def am_aast (fr : am_F) (h : am_H) : Option am_S := match fr.2.2 with
  | .inr (.inr (.inl none)) :: .inl i :: .inr (.inr (.inl (some a))) :: st =>
    if hK h a = 46 ∨ hK h a = 48 then
      if i < 0 ∨ hL h a ≤ i.toNatClampNeg then none else am_nx fr (putR h a i.toNatClampNeg none) 1 st
    else none
  | .inr (.inr (.inl (some b))) :: .inl i :: .inr (.inr (.inl (some a))) :: st =>
    if (hK h a = 46 ∧ 0 < hK h b ∧ hK h b < 40) ∨ (hK h a = 48 ∧ 12 ≤ hK h b ∧ hK h b ≤ 13) then
      if i < 0 ∨ hL h a ≤ i.toNatClampNeg then none else am_nx fr (putR h a i.toNatClampNeg (some b)) 1 st
    else none
  | _ => none
def am_newa (fr : am_F) (h : am_H) (len : Nat) (o : List Nat) : Option am_S := match o, fr.2.2 with
  | [c], .inl n :: st => if n < 0 ∨ 65536 < n.toNatClampNeg then none else am_nx fr (newC h c n.toNatClampNeg) len (.inr (.inr (.inl (some (hN h)))) :: st)
  | _, _ => none
def am_opt : Nat → Option Nat
  | 0 => none
  | n + 1 => some n
def am_ldc (fr : am_F) (h : am_H) (len : Nat) (o : List Nat) : Option am_S := match o with
  | [0, v] => am_nx fr h len (.inl (Int32.ofNat v) :: fr.2.2)
  | [1, e] => am_nx fr h len (.inr (.inr (.inl (some (hE h e)))) :: fr.2.2)
  | [2, e] => am_nx fr h len (.inr (.inr (.inl (am_opt (hE h e)))) :: fr.2.2)
  | [3, v] => am_nx fr h len (.inr (.inr (.inr (UInt32.ofNat v))) :: fr.2.2)
  | _ => none
def am_look (c : Nat) : List (Nat × Nat) → Option Nat
  | [] => none
  | (k, m) :: l => if c = k then some m else am_look c l
/-- the method by the receiver's kind; the one object of kind 23 is told by its address (nothing says that it is no array) -/
def am_lk (h : am_H) (a : Nat) (t : List (Nat × Nat)) : Option Nat := match am_look (hK h a) t with
  | some m => some m
  | none => if a = hE h 33 then am_look 23 t else none
theorem am_lk_u (h : am_H) (m : Nat) : am_lk h (hE h 33) [(23, m)] = some m := by
  unfold am_lk am_look
  by_cases e : hK h (hE h 33) = 23
  · rw [if_pos e]
  · rw [if_neg e]
    simp [am_look]
/-- the arguments, popped by their types (0 int, 1 long, 2 reference; the last one first) -/
def am_pop : List Nat → List am_V → List am_V → Option (List am_V × List am_V)
  | [], acc, st => some (acc, st)
  | 0 :: sg, acc, .inl x :: st => am_pop sg (.inl x :: acc) st
  | 1 :: sg, acc, .inr (.inl x) :: st => am_pop sg (.inr (.inl x) :: acc) st
  | 2 :: sg, acc, .inr (.inr (.inl x)) :: st => am_pop sg (.inr (.inr (.inl x)) :: acc) st
  | _, _, _ => none
def am_go (m : Nat) (args rest : List am_V) : Option am_S := if am_cats rest ≤ 8 then some (Sum.inr (Sum.inr (m, (args, rest)))) else none
/-- eight bytes as a long, the first one the lowest -/
def am_le8 (f : Nat → Int32) : Int64 := Int64.ofNat ((f 0).toUInt32.toNat % 256 + 256 * ((f 1).toUInt32.toNat % 256 + 256 * ((f 2).toUInt32.toNat % 256 + 256 * ((f 3).toUInt32.toNat % 256 + 256 * ((f 4).toUInt32.toNat % 256 + 256 * ((f 5).toUInt32.toNat % 256 + 256 * ((f 6).toUInt32.toNat % 256 + 256 * ((f 7).toUInt32.toNat % 256))))))))
/-- the methods that have no code of their own here: Object.<init>, arraycopy, getClass, Unsafe.getLong at a byte array's start, a byte array's clone -/
def am_nat (n : Nat) (fr : am_F) (h : am_H) (t : List (Nat × Nat)) : Option am_S := match n, fr.2.2 with
  | 1000, .inr (.inr (.inl (some _))) :: st => if am_cats st ≤ 8 then am_nx fr h 3 st else none
  | 1001, .inl n :: .inl j :: .inr (.inr (.inl (some b))) :: .inl i :: .inr (.inr (.inl (some a))) :: st =>
    if am_cats st ≤ 8 ∧ 0 ≤ n ∧ 0 ≤ i ∧ 0 ≤ j ∧ i.toNatClampNeg + n.toNatClampNeg ≤ hL h a ∧ j.toNatClampNeg + n.toNatClampNeg ≤ hL h b then
      if (hK h a = 44 ∨ hK h a = 45) ∧ hK h b = 44 then am_nx fr (cpyI h a i.toNatClampNeg b j.toNatClampNeg n.toNatClampNeg) 3 st
      else if (hK h a = 46 ∨ hK h a = 47) ∧ hK h b = 46 then am_nx fr (cpyR h a i.toNatClampNeg b j.toNatClampNeg n.toNatClampNeg) 3 st
      else none
    else none
  | 1002, .inr (.inr (.inl (some a))) :: st => if am_cats st ≤ 8 then
      match am_look (hK h a) t with
      | some e => am_nx fr h 3 (.inr (.inr (.inl (some (hE h e)))) :: st)
      | none => none
    else none
  | 1003, .inr (.inl off) :: .inr (.inr (.inl (some a))) :: .inr (.inr (.inl (some u))) :: st =>
    if am_cats st ≤ 8 ∧ off = 16 ∧ u = hE h 33 ∧ hK h a = 44 ∧ 8 ≤ hL h a then am_nx fr h 3 (.inr (.inl (am_le8 (hI h a))) :: st) else none
  | 1004, .inr (.inr (.inl (some a))) :: st =>
    if am_cats st ≤ 8 ∧ hK h a = 44 then am_nx fr (cpyI (newC h 44 (hL h a)) a 0 (hN h) 0 (hL h a)) 3 (.inr (.inr (.inl (some (hN h)))) :: st) else none
  | _, _ => none
/-- a call: o = flag :: handler :: types of the arguments from the last on; t: [(0, method)], or the methods by the receiver's kind; natives have o = [n] -/
def am_inv (virt : Bool) (fr : am_F) (h : am_H) (o : List Nat) (t : List (Nat × Nat)) : Option am_S := match o with
  | [n] => am_nat n fr h t
  | _ :: _ :: sg => match am_pop sg [] fr.2.2 with
    | some (args, rest) => match virt with
      | false => match am_look 0 t with
        | some m => am_go m args rest
        | none => none
      | true => match args with
        | .inr (.inr (.inl (some a))) :: _ => match am_lk h a t with
          | some m => am_go m args rest
          | none => none
        | _ => none
    | none => none
  | [] => none
/-- a call of a constructor or of a superclass's method: the receiver is an object of a class -/
def am_spc (fr : am_F) (h : am_H) (o : List Nat) (t : List (Nat × Nat)) : Option am_S := match o with
  | [n] => am_nat n fr h t
  | _ :: _ :: sg => match am_pop sg [] fr.2.2 with
    | some (.inr (.inr (.inl (some a))) :: as, rest) => if 0 < hK h a ∧ hK h a < 40 then (match am_look 0 t with
        | some m => am_go m (.inr (.inr (.inl (some a))) :: as) rest
        | none => none) else none
    | _ => none
  | [] => none
def am_exec (ai : am_I) (fr : am_F) (h : am_H) : Option am_S := match ai with
  | (ins, (len, (o, t))) => match ins with
    | .aconst_null => am_nx fr h 1 (.inr (.inr (.inl none)) :: fr.2.2)
    | .iconst n => am_nx fr h 1 (.inl (Int32.ofInt n) :: fr.2.2)
    | .bipush n => am_nx fr h 2 (.inl (Int8.ofInt n).toInt32 :: fr.2.2)
    | .sipush n => am_nx fr h 3 (.inl (Int16.ofInt n).toInt32 :: fr.2.2)
    | .lconst n => am_nx fr h 1 (.inr (.inl (Int64.ofNat n)) :: fr.2.2)
    | .ldc _ => am_ldc fr h 2 o
    | .ldc_w _ => am_ldc fr h 3 o
    | .ldc2_w _ => match o with
      | [v] => am_nx fr h 3 (.inr (.inl (Int64.ofNat v)) :: fr.2.2)
      | _ => none
    | .iload i => am_iload fr h 2 i
    | .iload_n i => am_iload fr h 1 i
    | .lload i => am_lload fr h 2 i
    | .lload_n i => am_lload fr h 1 i
    | .aload i => am_aload fr h 2 i
    | .aload_n i => am_aload fr h 1 i
    | .istore i => am_istore o fr h 2 i
    | .istore_n i => am_istore o fr h 1 i
    | .lstore i => am_lstore o fr h 2 i
    | .lstore_n i => am_lstore o fr h 1 i
    | .astore i => am_astore o fr h 2 i
    | .astore_n i => am_astore o fr h 1 i
    | .iinc i n => match fr.2.1[i]? with
      | some (some (.inl x)) => am_sv fr h 3 (fr.2.1.set i (some (.inl (x + Int32.ofInt n)))) fr.2.2
      | _ => none
    | .pop => match fr.2.2 with
      | v :: st => if am_c1 v = true then am_nx fr h 1 st else none
      | _ => none
    | .dup => match fr.2.2 with
      | v :: st => if am_c1 v = true then am_nx fr h 1 (v :: v :: st) else none
      | _ => none
    | .dup_x1 => match fr.2.2 with
      | v :: w :: st => if am_c1 v = true ∧ am_c1 w = true then am_nx fr h 1 (v :: w :: v :: st) else none
      | _ => none
    | .dup_x2 => match fr.2.2 with
      | v :: w :: u :: st => if am_c1 v = true ∧ am_c1 w = true ∧ am_c1 u = true then am_nx fr h 1 (v :: w :: u :: v :: st) else none
      | _ => none
    | .dup2 => match fr.2.2 with
      | .inr (.inl x) :: st => am_nx fr h 1 (.inr (.inl x) :: .inr (.inl x) :: st)
      | v :: w :: st => if am_c1 v = true ∧ am_c1 w = true then am_nx fr h 1 (v :: w :: v :: w :: st) else none
      | _ => none
    | .iadd => am_ib fr h (fun x y => x + y)
    | .isub => am_ib fr h (fun x y => x - y)
    | .imul => am_ib fr h (fun x y => x * y)
    | .iand => am_ib fr h (fun x y => x &&& y)
    | .ior => am_ib fr h (fun x y => x ||| y)
    | .ixor => am_ib fr h (fun x y => x ^^^ y)
    | .ishl => am_ib fr h (fun x y => x <<< (y &&& 31))
    | .ishr => am_ib fr h (fun x y => x >>> (y &&& 31))
    | .iushr => am_ib fr h (fun x y => (x.toUInt32 >>> (y.toUInt32 &&& Int32.toUInt32 31)).toInt32)
    | .idiv => match fr.2.2 with
      | .inl y :: .inl x :: st => if y = 0 then none else am_nx fr h 1 (.inl (x / y) :: st)
      | _ => none
    | .irem => match fr.2.2 with
      | .inl y :: .inl x :: st => if y = 0 then none else am_nx fr h 1 (.inl (x - x / y * y) :: st)
      | _ => none
    | .lrem => match fr.2.2 with
      | .inr (.inl y) :: .inr (.inl x) :: st => if y = 0 then none else am_nx fr h 1 (.inr (.inl (x - x / y * y)) :: st)
      | _ => none
    | .ineg => am_iu fr h (fun x => .inl (-x))
    | .ladd => am_lb fr h (fun x y => x + y)
    | .lmul => am_lb fr h (fun x y => x * y)
    | .lor => am_lb fr h (fun x y => x ||| y)
    | .land => am_lb fr h (fun x y => x &&& y)
    | .lxor => am_lb fr h (fun x y => x ^^^ y)
    | .lshl => match fr.2.2 with
      | .inl y :: .inr (.inl x) :: st => am_nx fr h 1 (.inr (.inl (x <<< (y.toInt64 &&& 63))) :: st)
      | _ => none
    | .lushr => match fr.2.2 with
      | .inl y :: .inr (.inl x) :: st => am_nx fr h 1 (.inr (.inl (x.toUInt64 >>> (y.toInt64.toUInt64 &&& Int64.toUInt64 63)).toInt64) :: st)
      | _ => none
    | .lcmp => match fr.2.2 with
      | .inr (.inl y) :: .inr (.inl x) :: st => am_nx fr h 1 (.inl (lg_cmp x y) :: st)
      | _ => none
    | .i2l => am_iu fr h (fun x => .inr (.inl x.toInt64))
    | .i2b => am_iu fr h (fun x => .inl x.toInt8.toInt32)
    | .i2c => am_iu fr h (fun x => .inl (x.toUInt32 % 65536).toInt32)
    | .l2i => match fr.2.2 with
      | .inr (.inl x) :: st => am_nx fr h 1 (.inl x.toInt32 :: st)
      | _ => none
    | .goto _ => match o with
      | t :: _ => am_jp fr h t fr.2.2
      | _ => none
    | .ifCond .eq _ => am_if1 fr h o (fun x => x = 0)
    | .ifCond .ne _ => am_if1 fr h o (fun x => x ≠ 0)
    | .ifCond .lt _ => am_if1 fr h o (fun x => x < 0)
    | .ifCond .ge _ => am_if1 fr h o (fun x => 0 ≤ x)
    | .ifCond .gt _ => am_if1 fr h o (fun x => 0 < x)
    | .ifCond .le _ => am_if1 fr h o (fun x => x ≤ 0)
    | .if_icmp .eq _ => am_if2 fr h o (fun x y => x = y)
    | .if_icmp .ne _ => am_if2 fr h o (fun x y => x ≠ y)
    | .if_icmp .lt _ => am_if2 fr h o (fun x y => x < y)
    | .if_icmp .ge _ => am_if2 fr h o (fun x y => y ≤ x)
    | .if_icmp .gt _ => am_if2 fr h o (fun x y => y < x)
    | .if_icmp .le _ => am_if2 fr h o (fun x y => x ≤ y)
    | .ifnull _ => match fr.2.2 with
      | .inr (.inr (.inl x)) :: st => am_if fr h o (x = none) st
      | _ => none
    | .ifnonnull _ => match fr.2.2 with
      | .inr (.inr (.inl x)) :: st => am_if fr h o (x ≠ none) st
      | _ => none
    | .if_acmp .eq _ => match fr.2.2 with
      | .inr (.inr (.inl y)) :: .inr (.inr (.inl x)) :: st => am_if fr h o (x = y) st
      | _ => none
    | .if_acmp .ne _ => match fr.2.2 with
      | .inr (.inr (.inl y)) :: .inr (.inr (.inl x)) :: st => am_if fr h o (x ≠ y) st
      | _ => none
    | .tableswitch _ _ _ _ => match o, fr.2.2 with
      | d :: _, .inl x :: st => am_jp fr h (am_sw x t d) st
      | _, _ => none
    | .lookupswitch _ _ => match o, fr.2.2 with
      | d :: _, .inl x :: st => am_jp fr h (am_sw x t d) st
      | _, _ => none
    | .getstatic _ => am_ldc fr h 3 o
    | .getfield _ => am_getf fr h o
    | .putfield _ => am_putf fr h o
    | .new _ => match o with
      | [c, n] => am_nx fr (newC h c n) 3 (.inr (.inr (.inl (some (hN h)))) :: fr.2.2)
      | _ => none
    | .newarray _ => am_newa fr h 2 o
    | .anewarray _ => am_newa fr h 3 o
    | .arraylength => match fr.2.2 with
      | .inr (.inr (.inl (some a))) :: st => if 40 ≤ hK h a ∧ hK h a ≤ 49 then am_nx fr h 1 (.inl (nI (hL h a)) :: st) else none
      | _ => none
    | .iaload => am_ald fr h 40 41 (fun a k => .inl (hI h a k))
    | .laload => am_ald fr h 42 42 (fun a k => .inr (.inl (hJ h a k)))
    | .baload => am_ald fr h 43 45 (fun a k => .inl (hI h a k))
    | .aaload => am_ald fr h 46 49 (fun a k => .inr (.inr (.inl (hR h a k))))
    | .iastore => am_iast fr h 40 0
    | .lastore => am_last fr h
    | .bastore => match o with
      | [43] => am_iast fr h 43 4
      | [44] => am_iast fr h 44 5
      | _ => none
    | .aastore => am_aast fr h
    | .checkcast _ => match fr.2.2 with
      | .inr (.inr (.inl none)) :: st => am_nx fr h 3 (.inr (.inr (.inl none)) :: st)
      | .inr (.inr (.inl (some a))) :: st => if hK h a ∈ o then am_nx fr h 3 (.inr (.inr (.inl (some a))) :: st) else none
      | _ => none
    | .instanceof _ => match fr.2.2 with
      | .inr (.inr (.inl none)) :: st => am_nx fr h 3 (.inl 0 :: st)
      | .inr (.inr (.inl (some a))) :: st => if hK h a ∈ o then am_nx fr h 3 (.inl 1 :: st) else match am_look (hK h a) t with
        | some _ => am_nx fr h 3 (.inl 0 :: st)
        | none => none
      | _ => none
    | .ireturn => match o, fr.2.2 with
      | [t], [.inl x] => if am_fit t x = true then some (.inr (.inl (.inl (some (.inl x)), h))) else none
      | _, _ => none
    | .lreturn => match fr.2.2 with
      | [.inr (.inl x)] => some (.inr (.inl (.inl (some (.inr (.inl x))), h)))
      | _ => none
    | .areturn => match fr.2.2 with
      | [.inr (.inr (.inl x))] => some (.inr (.inl (.inl (some (.inr (.inr (.inl x)))), h)))
      | _ => none
    | .return_ => match fr.2.2 with
      | [] => some (.inr (.inl (.inl none, h)))
      | _ => none
    | .athrow => match fr.2.2 with
      | [.inr (.inr (.inl (some q)))] => if hK h q = am_wrong then some (.inr (.inl (.inr q, h))) else none
      | _ => none
    | .invokestatic _ => am_inv false fr h o t
    | .invokespecial _ => am_spc fr h o t
    | .invokevirtual _ => am_inv true fr h o t
    | .invokeinterface _ _ => am_inv true fr h o t
    | _ => none
def am_flag (ai : am_I) : Bool := match ai.2.2.1 with
  | 1 :: _ => true
  | _ => false
def am_hdl (ai : am_I) : Option Nat := match ai.2.2.1 with
  | _ :: (k + 1) :: _ => some (k + 1)
  | _ => none
def am_run (P : Nat → Option am_M) : Nat → Nat → Nat → am_F → am_H → Option (am_O × am_H)
  | 0, _, _, _, _ => none
  | n + 1, r, i, fr, h =>
    match P i with
    | none => none
    | some pm =>
      match pm.2.2 fr.1 with
      | none => none
      | some ai =>
        match am_exec ai fr h with
        | none => none
        | some (.inl (fr', h')) => am_run P n r i fr' h'
        | some (.inr (.inl o)) => some o
        | some (.inr (.inr (m, (args, rest)))) =>
          match P m with
          | none => none
          | some pm' =>
            match am_deep (am_flag ai) r pm.2.1 pm'.2.1 with
            | none => none
            | some r' =>
              match am_run P n r' m (0, (am_pad pm'.1 (am_slots args), [])) h with
              | none => none
              | some (.inl v, h') => am_run P n r i (fr.1 + ai.2.1, (fr.2.1, v.toList ++ rest)) h'
              | some (.inr q, h') =>
                match am_hdl ai with
                | none => some (.inr q, h')
                | some tgt =>
                  match Nat.beq (hK h' q) am_wrong with
                  | true => am_run P n r i (tgt, (fr.2.1, [vR (some q)])) h'
                  | false => none
theorem am_run_succ (P : Nat → Option am_M) : ∀ (n r i : Nat) (fr : am_F) (h : am_H) (x : am_O × am_H), am_run P n r i fr h = some x → am_run P (n + 1) r i fr h = some x
  | 0, _, _, _, _, _, e => by simp [am_run] at e
  | n + 1, r, i, fr, h, x, e => by
    rw [am_run] at e ⊢
    cases hP : P i with
    | none => rw [hP] at e; exact e
    | some pm =>
      rw [hP] at e
      simp only at e ⊢
      cases hc : pm.2.2 fr.1 with
      | none => rw [hc] at e; exact e
      | some ai =>
        rw [hc] at e
        simp only at e ⊢
        cases hf : am_exec ai fr h with
        | none => rw [hf] at e; exact e
        | some y =>
          rw [hf] at e
          rcases y with w | o | ⟨m, args, rest⟩
          · exact am_run_succ P n _ _ _ _ _ e
          · exact e
          · simp only at e ⊢
            cases hm : P m with
            | none => rw [hm] at e; exact e
            | some pm' =>
              rw [hm] at e
              simp only at e ⊢
              cases hd : am_deep (am_flag ai) r pm.2.1 pm'.2.1 with
              | none => rw [hd] at e; exact e
              | some r' =>
                rw [hd] at e
                simp only at e ⊢
                cases hr : am_run P n r' m (0, (am_pad pm'.1 (am_slots args), [])) h with
                | none => rw [hr] at e; cases e
                | some w =>
                  rw [am_run_succ P n _ _ _ _ _ hr]
                  rw [hr] at e
                  obtain ⟨o, h'⟩ := w
                  cases o with
                  | inl v => exact am_run_succ P n _ _ _ _ _ e
                  | inr q =>
                    simp only at e ⊢
                    cases ht : am_hdl ai with
                    | none => rw [ht] at e; exact e
                    | some tgt =>
                      rw [ht] at e
                      simp only at e ⊢
                      cases hb : Nat.beq (hK h' q) am_wrong with
                      | true => rw [hb] at e; exact am_run_succ P n _ _ _ _ _ e
                      | false => rw [hb] at e; exact e
theorem am_run_le (P : Nat → Option am_M) {n k r i : Nat} {fr : am_F} {h : am_H} {x : am_O × am_H} (hk : n ≤ k) (e : am_run P n r i fr h = some x) : am_run P k r i fr h = some x := by
  induction hk with
  | refl => exact e
  | step _ ih => exact am_run_succ P _ _ _ _ _ _ ih
theorem am_run_det (P : Nat → Option am_M) {n k r i : Nat} {fr : am_F} {h : am_H} {x y : am_O × am_H} (e : am_run P n r i fr h = some x) (f : am_run P k r i fr h = some y) : x = y := by
  rcases Nat.le_total n k with q | q
  · exact Option.some.inj ((am_run_le P q e).symm.trans f)
  · exact Option.some.inj (e.symm.trans (am_run_le P q f))
