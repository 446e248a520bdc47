/-! THE VIEW of a heap: plain cells as they are; lists, texts, maps and the rooms of lists; what is inside them is hidden *-/
abbrev vT : Type := am_H × ((Nat → List (Option Nat)) × ((Nat → List Int32) × ((Nat → List Int32 → Option Nat) × (Nat → Nat))))
def vLs (v : vT) (a : Nat) : List (Option Nat) := v.2.1 a
def vTx (v : vT) (a : Nat) : List Int32 := v.2.2.1 a
def vMp (v : vT) (a : Nat) (s : List Int32) : Option Nat := v.2.2.2.1 a s
def vCp (v : vT) (a : Nat) : Nat := v.2.2.2.2 a
/-- a cell whose fields are hidden -/
def opq (c : Nat) : Prop := c = 4 ∨ c = 6 ∨ c = 10 ∨ c = 11 ∨ c = 16
/-- one of the shared cells that never change -/
def shr (c : Nat) : Prop := c = 45 ∨ c = 47 ∨ c = 49
/-! texts -/
def hashT (x : Int32) : List Int32 → Int32
  | [] => x
  | b :: l => hashT (31 * x + (b &&& 255)) l
def hashS (T : List Int32) : Int32 := hashT 0 T
def sprd (x : Int32) : Int32 := x ^^^ (x.toUInt32 >>> ((16 : Int32).toUInt32 &&& Int32.toUInt32 31)).toInt32
def okB (T : List Int32) : Prop := ∀ x, x ∈ T → x.toInt8.toInt32 = x
def isTx (g : Nat → Nat) (h : am_H) (c : Nat) (T : List Int32) (a : Nat) : Prop :=
  (∃ b, hR h a 0 = some b ∧ b < hN h ∧ ((hK h b = 44 ∧ g b = a) ∨ (c = 11 ∧ hK h b = 45 ∧ g b = b)) ∧ hL h b = T.length ∧ ∀ i, i < T.length → hI h b i = T.getD i 0) ∧ hI h a 1 = 0 ∧ okB T ∧ T.length ≤ 300
  ∧ (hI h a 2 = 0 ∨ hI h a 2 = hashS T) ∧ (hI h a 3 ≠ 0 → hashS T = 0) ∧ (c = 11 → hI h a 2 ≠ 0 ∨ hI h a 3 ≠ 0)
def isSb (g : Nat → Nat) (h : am_H) (T : List Int32) (a : Nat) : Prop :=
  (∃ b, hR h a 0 = some b ∧ b < hN h ∧ hK h b = 44 ∧ g b = a ∧ T.length ≤ hL h b ∧ hL h b ≤ 3000 ∧ ∀ i, i < T.length → hI h b i = T.getD i 0) ∧ hI h a 1 = 0 ∧ okB T ∧ hI h a 3 = iI T.length
def isLs (g : Nat → Nat) (h : am_H) (L : List (Option Nat)) (c : Nat) (a : Nat) : Prop :=
  ∃ e, hR h a 1 = some e ∧ e < hN h ∧ ((hK h e = 46 ∧ g e = a) ∨ (hK h e = 47 ∧ g e = e ∧ e = hE h 31 ∧ c = 0)) ∧ hI h a 2 = iI L.length ∧ hL h e = c ∧ L.length ≤ c ∧ c ≤ 30000 ∧ ∀ i, i < L.length → hR h e i = L.getD i none
/-! maps -/
def chn (h : am_H) : Option Nat → List Nat → Prop
  | o, [] => o = none
  | o, x :: l => o = some x ∧ chn h (hR h x 3) l
/-- a key's number: the texts are words of at most eight letters -/
def encT : Nat → List Int32 → Int
  | 0, _ => 0
  | _ + 1, [] => 0
  | n + 1, b :: l => (b &&& 255).toInt * 256 ^ n + encT n l
def keyN (x : Int32) (T : List Int32) : Int := x.toInt * 256 ^ 8 + encT 8 T
def okK (T : List Int32) : Prop := T.length ≤ 8 ∧ ∀ x, x ∈ T → 97 ≤ x.toInt ∧ x.toInt ≤ 122
/-- where a node lies in a table of n bins -/
def bIx (n : Nat) (x : Int32) : Nat := (iI (n - 1) &&& x).toNatClampNeg
/-- a node: key and value -/
def isNd (g : Nat → Nat) (h : am_H) (v : vT) (m x : Nat) : Prop :=
  g x = m ∧ x < hN h ∧ (hK h x = 12 ∨ hK h x = 13) ∧ ∃ k z, hR h x 1 = some k ∧ k < hN h ∧ (hK v.1 k = 10 ∨ (hK v.1 k = 11 ∧ (vTx v k).length < 8)) ∧ okK (vTx v k) ∧ hI h x 0 = sprd (hashS (vTx v k)) ∧ hR h x 2 = some z ∧ vMp v m (vTx v k) = some z
/-- the text of a node -/
def ndT (h : am_H) (v : vT) (x : Nat) : List Int32 := match hR h x 1 with
  | some k => vTx v k
  | none => []
def ndN (h : am_H) (v : vT) (x : Nat) : Int := keyN (hI h x 0) (ndT h v x)
/-- a bin that is a list of nodes -/
def isLB (h : am_H) (n : Nat) (o : Option Nat) (NS : List Nat) (i : Nat) : Prop :=
  ∃ xs, chn h o xs ∧ xs.Nodup ∧ (∀ x, x ∈ xs → hK h x = 12) ∧ ∀ x, x ∈ xs ↔ (x ∈ NS ∧ bIx n (hI h x 0) = i)
/-- a tree of nodes: its set, its root, ranges -/
def isTr (h : am_H) (v : vT) (B : Nat → Prop) (r : Nat) (lo hi : Nat → Int) : Prop :=
  B r ∧ hR h r 4 = none ∧ (∀ x, B x → lo r < ndN h v x ∧ ndN h v x < hi r) ∧ (∀ x, B x → hK h x = 13 ∧ lo x < ndN h v x ∧ ndN h v x < hi x) ∧
  (∀ x y, B x → hR h x 5 = some y → B y ∧ hR h y 4 = some x ∧ lo y = lo x ∧ hi y = ndN h v x) ∧
  (∀ x y, B x → hR h x 6 = some y → B y ∧ hR h y 4 = some x ∧ lo y = ndN h v x ∧ hi y = hi x) ∧
  (∀ y, B y → y = r ∨ ∃ x, B x ∧ hR h y 4 = some x ∧ (hR h x 5 = some y ∨ hR h x 6 = some y))
/-- neighbours of tree nodes are tree nodes of the same bin -/
def isNb (h : am_H) (B : Nat → Prop) : Prop := ∀ x y, B x → (hR h x 3 = some y ∨ hR h x 7 = some y) → B y
def isTB (h : am_H) (v : vT) (o : Option Nat) (NS : List Nat) (i : Nat) : Prop :=
  ∃ r lo hi, o = some r ∧ isTr h v (fun x => x ∈ NS ∧ bIx 64 (hI h x 0) = i) r lo hi ∧ isNb h (fun x => x ∈ NS ∧ bIx 64 (hI h x 0) = i) ∧ hR h r 3 ≠ none ∧ lo r < -(2 ^ 100) ∧ 2 ^ 100 < hi r
def isTb (g : Nat → Nat) (h : am_H) (v : vT) (m t n : Nat) (NS : List Nat) : Prop :=
  hK h t = 48 ∧ g t = m ∧ t < hN h ∧ hL h t = n ∧ ∀ i, i < n → isLB h n (hR h t i) NS i ∨ (n = 64 ∧ isTB h v (hR h t i) NS i)
def isMp (g : Nat → Nat) (h : am_H) (v : vT) (m : Nat) : Prop :=
  ∃ NS : List Nat, NS.Nodup ∧ NS.length ≤ 16 ∧ hI h m 4 = iI NS.length ∧ (∀ x, x ∈ NS → isNd g h v m x) ∧ (∀ x y, x ∈ NS → y ∈ NS → ndT h v x = ndT h v y → x = y) ∧
  (∀ s z, vMp v m s = some z → ∃ x, x ∈ NS ∧ ndT h v x = s) ∧
  ((hR h m 2 = none ∧ NS = [] ∧ hI h m 6 = 0) ∨ ∃ t n, hR h m 2 = some t ∧ (n = 16 ∨ n = 32 ∨ n = 64) ∧ hI h m 6 = iI (n / 4 * 3 : Nat) ∧ (NS.length ≤ n / 4 * 3) ∧ isTb g h v m t n NS)
/-! a cell's view -/
def VO (g : Nat → Nat) (h : am_H) (v : vT) (a : Nat) : Prop :=
  (hK v.1 a ≠ 0 → g a = a ∧ hK h a = hK v.1 a) ∧
  (hK v.1 a ≠ 0 → ¬ opq (hK v.1 a) → hL h a = hL v.1 a ∧ ∀ k, hI h a k = hI v.1 a k ∧ hJ h a k = hJ v.1 a k ∧ hR h a k = hR v.1 a k) ∧
  (hK v.1 a = 4 → isLs g h (vLs v a) (vCp v a) a) ∧ (hK v.1 a = 6 → isMp g h v a) ∧ ((hK v.1 a = 10 ∨ hK v.1 a = 11) → isTx g h (hK v.1 a) (vTx v a) a) ∧ (hK v.1 a = 16 → isSb g h (vTx v a) a)
/-- the constants that the library's methods look at -/
def VC (g : Nat → Nat) (h : am_H) (v : vT) : Prop :=
  (hK h (hE h 31) = 47 ∧ hL h (hE h 31) = 0 ∧ g (hE h 31) = hE h 31) ∧
  (hK h (hE h 32) = 49 ∧ hL h (hE h 32) = 256 ∧ g (hE h 32) = hE h 32 ∧ ∀ i, i < 256 → ∃ c, hR h (hE h 32) i = some c ∧ hK h c = 9 ∧ g c = c ∧ hI h c 0 = iI (i - 128) ∧ hK v.1 c = 9 ∧ hI v.1 c 0 = iI (i - 128)) ∧ hE h 33 = hE h 33
def CRg (g : Nat → Nat) (h : am_H) (v : vT) : Prop := hN v.1 = hN h ∧ hS v.1 = hS h ∧ (∀ k, hE v.1 k = hE h k) ∧ VC g h v ∧ ∀ a, a < hN h → VO g h v a
def CR (h : am_H) (v : vT) : Prop := ∃ g, CRg g h v
