/-! THE START, words: where the Statement's words about the start lie; printed by gen_start.py -/
set_option maxRecDepth 100000
def nar : List Cond := flatC (Jvm.Cond.and given_1 narrow_1)
theorem nar_in (ws : List Cond) (ps : List Nat) (hp : ws = ps.filterMap (fun i => nar[i]?)) : ∀ w ∈ ws, w ∈ nar := by
  intro w h
  rw [hp] at h
  obtain ⟨i, -, hi⟩ := List.mem_filterMap.mp h
  exact List.mem_of_getElem? hi
theorem nar_run (ws : List Cond) (i n : Nat) (hp : ws = (nar.drop i).take n) : ∀ w ∈ ws, w ∈ nar := by
  intro w h
  rw [hp] at h
  exact List.mem_of_mem_drop (List.mem_of_mem_take h)
theorem tbl_in (ws : List Cond) (ps : List Nat) (hp : ws = ps.filterMap (fun i => lw_tbl[i]?)) : ∀ w ∈ ws, w ∈ lw_tbl := by
  intro w h
  rw [hp] at h
  obtain ⟨i, -, hi⟩ := List.mem_filterMap.mp h
  exact List.mem_of_getElem? hi
/-- the words about one String constant -/
def strW (own : String) (idx : Nat) (T : List Int32) (x z : Int32) : List Cond :=
  [.exactly (.string own idx) "java/lang/String", .eq (.field (.string own idx) "java/lang/String" "coder" "B") (.int 0), .arrayOf (.field (.string own idx) "java/lang/String" "value" "[B") .byte, .eq (.length (.field (.string own idx) "java/lang/String" "value" "[B")) (.int (Int32.ofNat T.length))] ++
  ((List.range T.length).map fun j => Cond.eq (.elem (.field (.string own idx) "java/lang/String" "value" "[B") (.int (Int32.ofNat j))) (.int (T.getD j 0))) ++
  [.eq (.field (.string own idx) "java/lang/String" "hash" "I") (.int x), .eq (.field (.string own idx) "java/lang/String" "hashIsZero" "Z") (.int z)]
def stT : Nat → List Int32
  | 0 => [97, 108, 108]
  | 1 => [112, 108, 97, 105, 110]
  | 2 => [108, 111, 111, 115, 101]
  | 3 => [101, 114, 114, 111, 114]
  | 4 => [123, 125, 40, 41, 59, 44, 124]
  | 5 => [107, 105, 110, 100]
  | 6 => [32, 107, 105, 110, 100, 32, 98, 101, 108, 111, 119, 32, 119, 97, 121, 32, 111, 118, 101, 114, 32, 102, 114, 101, 101, 32, 116, 104, 114, 111, 119, 115, 32, 100, 111, 32, 99, 97, 108, 108, 32, 116, 104, 114, 111, 119, 32, 115, 101, 116, 32, 105, 102, 32, 101, 108, 115, 101, 32, 119, 104, 105, 108, 101, 32, 108, 111, 111, 112, 32, 98, 114, 101, 97, 107, 32, 114, 101, 116, 117, 114, 110, 32, 116, 114, 121, 32, 99, 97, 116, 99, 104, 32, 102, 105, 110, 97, 108, 108, 121, 32, 114, 117, 110, 32]
  | 7 => [32]
  | 8 => [98, 101, 108, 111, 119]
  | 9 => [119, 97, 121]
  | 10 => [111, 118, 101, 114]
  | 11 => [102, 114, 101, 101]
  | 12 => [116, 104, 114, 111, 119, 115]
  | 13 => [32, 100, 111, 32, 99, 97, 108, 108, 32, 116, 104, 114, 111, 119, 32, 115, 101, 116, 32, 105, 102, 32, 119, 104, 105, 108, 101, 32, 108, 111, 111, 112, 32, 98, 114, 101, 97, 107, 32, 114, 101, 116, 117, 114, 110, 32, 116, 114, 121, 32, 114, 117, 110, 32]
  | 14 => [100, 111]
  | 15 => [99, 97, 108, 108]
  | 16 => [116, 104, 114, 111, 119]
  | 17 => [115, 101, 116]
  | 18 => [105, 102]
  | 19 => [119, 104, 105, 108, 101]
  | 20 => [108, 111, 111, 112]
  | 21 => [98, 114, 101, 97, 107]
  | 22 => [114, 101, 116, 117, 114, 110]
  | 23 => [116, 114, 121]
  | 24 => [101, 108, 115, 101]
  | 25 => [99, 97, 116, 99, 104]
  | 26 => [102, 105, 110, 97, 108, 108, 121]
  | _ => []
def stH : Nat → Int32
  | 0 => 96673
  | 1 => 106748362
  | 2 => 103157406
  | 3 => 96784904
  | 4 => 1110667400
  | 5 => 3292052
  | 6 => -1334067514
  | 7 => 32
  | 8 => 93621297
  | 9 => 117487
  | 10 => 3423444
  | 11 => 3151468
  | 12 => -874432947
  | 13 => 652732890
  | 14 => 3211
  | 15 => 3045982
  | 16 => 110339814
  | 17 => 113762
  | 18 => 3357
  | 19 => 113101617
  | 20 => 3327652
  | 21 => 94001407
  | 22 => -934396624
  | 23 => 115131
  | 24 => 3116345
  | 25 => 94432955
  | 26 => -853259901
  | _ => 0
def stZ : Nat → Int32
  | 0 => 0
  | 1 => 0
  | 2 => 0
  | 3 => 0
  | 4 => 0
  | 5 => 0
  | 6 => 0
  | 7 => 0
  | 8 => 0
  | 9 => 0
  | 10 => 0
  | 11 => 0
  | 12 => 0
  | 13 => 0
  | 14 => 0
  | 15 => 0
  | 16 => 0
  | 17 => 0
  | 18 => 0
  | 19 => 0
  | 20 => 0
  | 21 => 0
  | 22 => 0
  | 23 => 0
  | 24 => 0
  | 25 => 0
  | 26 => 0
  | _ => 0
theorem in_strs : ∀ w ∈ (am_strs.flatMap fun q => strW q.1 q.2.1 (stT q.2.2.1) (stH q.2.2.1) (stZ q.2.2.1)), w ∈ nar := nar_run _ 706 428 (by decide +kernel)
theorem in_vals : ∀ w ∈ (am_strs.map fun q => Cond.exactly (.field (.string q.1 q.2.1) "java/lang/String" "value" "[B") "[B"), w ∈ nar := nar_run _ 1134 27 (by decide +kernel)
theorem in_stI : ∀ w ∈ (am_stI.map fun q => Cond.eq (.static q.1 q.2.1 q.2.2.1) (.int (Int32.ofNat q.2.2.2))), w ∈ nar := nar_in _ [30, 10, 24, 15, 20, 16, 22, 17, 21] (by decide +kernel)
theorem in_stO : ∀ w ∈ (am_stO.map fun q => Cond.isRef (.static q.1 q.2.1 q.2.2.1)), w ∈ nar := nar_in _ [4, 5] (by decide +kernel)
theorem in_ncs : ∀ w ∈ (am_ncs.map fun q => Cond.not (.castable q.1 q.2)), w ∈ nar := nar_in _ [105, 204, 205, 206, 207, 208, 209, 210, 211, 235, 236, 237, 238, 239, 240, 241, 234, 265, 266, 267, 268, 269, 270, 271, 264, 295, 296, 297, 298, 299, 300, 301, 294, 325, 326, 327, 328, 329, 330, 331, 324, 355, 356, 357, 358, 359, 360, 361, 354, 385, 386, 387, 388, 389, 390, 391, 384, 415, 416, 417, 418, 419, 420, 421, 414, 445, 446, 447, 448, 449, 450, 451, 444] (by decide +kernel)
theorem in_mirs : ∀ w ∈ (am_mirs.map fun q => Cond.isRef (.mirror q.1)), w ∈ nar := nar_in _ [611, 610] (by decide +kernel)
theorem lay_am_stI : ∀ w ∈ (am_stI.map fun q => Cond.laysStatic q.1 q.2.1 q.2.2.1), w ∈ lw_tbl := tbl_in _ [1917, 515, 931, 685, 748, 687, 765, 692, 757] (by decide +kernel)
theorem ini_am_stI : ∀ w ∈ (am_stI.map fun q => Cond.initialized q.1), w ∈ lw_tbl := tbl_in _ [144, 112, 121, 115, 106, 106, 106, 106, 106] (by decide +kernel)
theorem lay_am_stR : ∀ w ∈ (am_stR.map fun q => Cond.laysStatic q.1 q.2.1 q.2.2.1), w ∈ lw_tbl := tbl_in _ [1511, 242, 1919, 694] (by decide +kernel)
theorem ini_am_stR : ∀ w ∈ (am_stR.map fun q => Cond.initialized q.1), w ∈ lw_tbl := tbl_in _ [101, 101, 144, 106] (by decide +kernel)
theorem lay_am_stO : ∀ w ∈ (am_stO.map fun q => Cond.laysStatic q.1 q.2.1 q.2.2.1), w ∈ lw_tbl := tbl_in _ [187, 189] (by decide +kernel)
theorem ini_am_stO : ∀ w ∈ (am_stO.map fun q => Cond.initialized q.1), w ∈ lw_tbl := tbl_in _ [95, 95] (by decide +kernel)
theorem ref_strs : ∀ w ∈ (am_strs.map fun q => Cond.stringRef q.1 q.2.1 q.2.2.2), w ∈ lw_tbl := tbl_in _ [350, 994, 995, 996, 1271, 1325, 1348, 1352, 1423, 1495, 1554, 1555, 1561, 1649, 1695, 1696, 1697, 1698, 1699, 1700, 1701, 1702, 1703, 1704, 1936, 1949, 1950] (by decide +kernel)
def stE0 : Term := .static "java/util/ArrayList" "EMPTY_ELEMENTDATA" "[Ljava/lang/Object;"
def stE1 : Term := .static "java/util/ArrayList" "DEFAULTCAPACITY_EMPTY_ELEMENTDATA" "[Ljava/lang/Object;"
def stEC : Term := .static "java/lang/Integer$IntegerCache" "cache" "[Ljava/lang/Integer;"
def stEU : Term := .static "jdk/internal/util/ArraysSupport" "U" "Ljdk/internal/misc/Unsafe;"
def stW : List Cond := [.arrayOf stE0 (.object "java/lang/Object"), .exactly stE0 "[Ljava/lang/Object;", .eq (.length stE0) (.int 0), .arrayOf stE1 (.object "java/lang/Object"), .exactly stE1 "[Ljava/lang/Object;", .eq (.length stE1) (.int 0), .arrayOf stEC (.object "java/lang/Integer"), .eq (.length stEC) (.int 256), .all stEC (.and (.exactly (.elem stEC (.index 0)) "java/lang/Integer") (.eq (.field (.elem stEC (.index 0)) "java/lang/Integer" "value" "I") (.sub (.index 0) (.int 128)))), .exactly stEU "jdk/internal/misc/Unsafe"]
theorem in_stW : ∀ w ∈ stW, w ∈ nar := nar_in _ [26, 27, 28, 7, 8, 9, 32, 33, 34, 18] (by decide +kernel)
def stN : List Nat := [4, 5, 18, 7, 3, 6, 8, 4, 1, 1, 4, 4, 4, 11, 5, 75, 4, 3, 9, 2, 5, 4, 6, 4, 4, 4, 4, 4, 4, 4, 7, 8, 7, 7, 8, 7, 12, 7, 6]
theorem in_inst : ∀ w ∈ ((am_cls.zip stN).map fun q => Cond.instantiable q.1.1 q.2), w ∈ lw_tbl := tbl_in _ [356, 147, 155, 161, 230, 311, 319, 356, 1920, 1920, 1217, 1217, 884, 944, 1030, 2350, 1121, 1446, 1501, 1563, 1583, 1610, 1956, 356, 356, 356, 356, 356, 356, 356, 1706, 1726, 1749, 1769, 1789, 1814, 1836, 1880, 1655] (by decide +kernel)
theorem in_arr : ∀ w ∈ ([.arrayClass .int, .arrayClass .long, .arrayClass .boolean, .arrayClass .byte, .arrayOver (.object "java/lang/Object"), .arrayOver (.object "java/util/HashMap$Node")] : List Cond), w ∈ lw_tbl := tbl_in _ [2589, 2590, 2591, 228, 456, 870] (by decide +kernel)
def stX : List Cond := [.declares ⟨"java/lang/Comparable", "compareTo", "(Ljava/lang/Object;)I"⟩, .interfaceMethod "java/lang/Comparable" "java/lang/Comparable" "compareTo" "(Ljava/lang/Object;)I", .publicMethod ⟨"java/lang/String", "compareTo", "(Ljava/lang/Object;)I"⟩, .unhidden "java/lang/String" "compareTo" "(Ljava/lang/Object;)I", .castable "java/lang/String" "java/lang/Comparable", .declares ⟨"java/lang/CharSequence", "toString", "()Ljava/lang/String;"⟩, .interfaceMethod "java/lang/CharSequence" "java/lang/CharSequence" "toString" "()Ljava/lang/String;", .publicMethod ⟨"java/lang/String", "toString", "()Ljava/lang/String;"⟩, .unhidden "java/lang/String" "toString" "()Ljava/lang/String;", .castable "java/lang/String" "java/lang/CharSequence", .declares ⟨"java/lang/Object", "getClass", "()Ljava/lang/Class;"⟩, .selects "java/lang/StringBuilder" ⟨"java/lang/AbstractStringBuilder", "isLatin1", "()Z"⟩ ⟨"java/lang/AbstractStringBuilder", "isLatin1", "()Z"⟩, .privateMethod ⟨"java/lang/AbstractStringBuilder", "ensureCapacityInternal", "(I)V"⟩, .instanceMethod ⟨"java/lang/AbstractStringBuilder", "ensureCapacityInternal", "(I)V"⟩, .privateMethod ⟨"java/lang/AbstractStringBuilder", "newCapacity", "(I)I"⟩, .instanceMethod ⟨"java/lang/AbstractStringBuilder", "newCapacity", "(I)I"⟩, .privateMethod ⟨"java/lang/AbstractStringBuilder", "putStringAt", "(ILjava/lang/String;)V"⟩, .instanceMethod ⟨"java/lang/AbstractStringBuilder", "putStringAt", "(ILjava/lang/String;)V"⟩, .privateMethod ⟨"java/lang/AbstractStringBuilder", "inflateIfNeededFor", "(Ljava/lang/String;)V"⟩, .instanceMethod ⟨"java/lang/AbstractStringBuilder", "inflateIfNeededFor", "(Ljava/lang/String;)V"⟩]
theorem in_stX : ∀ w ∈ stX, w ∈ lw_tbl := tbl_in _ [646, 645, 664, 662, 660, 1390, 1389, 1395, 1393, 1391, 2969, 828, 1156, 1157, 1160, 1161, 1369, 1370, 1373, 1374] (by decide +kernel)
