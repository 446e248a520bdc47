/-! EVERY METHOD IS VALID, printed by gen_valid.py -/
set_option maxRecDepth 100000
def am_AllI (P : Nat → am_T → Prop) : Nat → List am_T → Prop
  | _, [] => True
  | b, x :: l => P b x ∧ am_AllI P (b + 1) l
theorem am_lst {P : Nat → am_T → Prop} : ∀ (l : List am_T) (b : Nat), am_AllI P b l → ∀ (k : Nat) (T : am_T), l[k]? = some T → P (b + k) T
  | [], b, _, k, T, h => by simp at h
  | x :: l, b, hA, k, T, h => by
    cases k with
    | zero =>
      simp at h
      subst h
      exact hA.1
    | succ k =>
      have := am_lst l (b + 1) hA.2 k T (by simpa using h)
      rw [show b + (k + 1) = b + 1 + k by omega]
      exact this
theorem mv0 : am_MV am_mt 0 mT0 := ⟨_, pg0, fun h => absurd rfl h, am_at_all cd0 v0⟩
theorem mv1 : am_MV am_mt 1 mT1 := ⟨_, pg1, fun _ => ⟨by decide +kernel, q150, q93, ⟨by decide +kernel, by decide +kernel, by decide +kernel⟩, by decide, by decide, by decide, by decide⟩, am_at_all cd1 v1⟩
theorem mv2 : am_MV am_mt 2 mT2 := ⟨_, pg2, fun _ => ⟨by decide +kernel, q2353, q123, ⟨by decide +kernel, by decide +kernel, by decide +kernel⟩, by decide, by decide, by decide, by decide⟩, am_at_all cd2 v2⟩
theorem mv3 : am_MV am_mt 3 mT3 := ⟨_, pg3, fun _ => ⟨by decide +kernel, q1082, q93, ⟨by decide +kernel, by decide +kernel, by decide +kernel⟩, by decide, by decide, by decide, by decide⟩, am_at_all cd3 v3⟩
theorem mv4 : am_MV am_mt 4 mT4 := ⟨_, pg4, fun _ => ⟨by decide +kernel, q2595, q123, ⟨by decide +kernel, by decide +kernel, by decide +kernel⟩, by decide, by decide, by decide, by decide⟩, am_at_all cd4 v4⟩
theorem mv5 : am_MV am_mt 5 mT5 := ⟨_, pg5, fun _ => ⟨by decide +kernel, q1090, q93, ⟨by decide +kernel, by decide +kernel, by decide +kernel⟩, by decide, by decide, by decide, by decide⟩, am_at_all cd5 v5⟩
theorem mv6 : am_MV am_mt 6 mT6 := ⟨_, pg6, fun _ => ⟨by decide +kernel, q2599, q123, ⟨by decide +kernel, by decide +kernel, by decide +kernel⟩, by decide, by decide, by decide, by decide⟩, am_at_all cd6 v6⟩
theorem mv7 : am_MV am_mt 7 mT7 := ⟨_, pg7, fun _ => ⟨by decide +kernel, q1097, q93, ⟨by decide +kernel, by decide +kernel, by decide +kernel⟩, by decide, by decide, by decide, by decide⟩, am_at_all cd7 v7⟩
theorem mv8 : am_MV am_mt 8 mT8 := ⟨_, pg8, fun _ => ⟨by decide +kernel, q2603, q123, ⟨by decide +kernel, by decide +kernel, by decide +kernel⟩, by decide, by decide, by decide, by decide⟩, am_at_all cd8 v8⟩
theorem mv9 : am_MV am_mt 9 mT9 := ⟨_, pg9, fun _ => ⟨by decide +kernel, q2175, q93, ⟨by decide +kernel, by decide +kernel, by decide +kernel⟩, by decide, by decide, by decide, by decide⟩, am_at_all cd9 v9⟩
theorem mv10 : am_MV am_mt 10 mT10 := ⟨_, pg10, fun _ => ⟨by decide +kernel, q2841, q123, ⟨by decide +kernel, by decide +kernel, by decide +kernel⟩, by decide, by decide, by decide, by decide⟩, am_at_all cd10 v10⟩
theorem mv11 : am_MV am_mt 11 mT11 := ⟨_, pg11, fun _ => ⟨by decide +kernel, q2179, q93, ⟨by decide +kernel, by decide +kernel, by decide +kernel⟩, by decide, by decide, by decide, by decide⟩, am_at_all cd11 v11⟩
theorem mv12 : am_MV am_mt 12 mT12 := ⟨_, pg12, fun _ => ⟨by decide +kernel, q2845, q123, ⟨by decide +kernel, by decide +kernel, by decide +kernel⟩, by decide, by decide, by decide, by decide⟩, am_at_all cd12 v12⟩
theorem mv13 : am_MV am_mt 13 mT13 := ⟨_, pg13, fun _ => ⟨by decide +kernel, q2185, q93, ⟨by decide +kernel, by decide +kernel, by decide +kernel⟩, by decide, by decide, by decide, by decide⟩, am_at_all cd13 v13⟩
theorem mv14 : am_MV am_mt 14 mT14 := ⟨_, pg14, fun _ => ⟨by decide +kernel, q2849, q123, ⟨by decide +kernel, by decide +kernel, by decide +kernel⟩, by decide, by decide, by decide, by decide⟩, am_at_all cd14 v14⟩
theorem mv15 : am_MV am_mt 15 mT15 := ⟨_, pg15, fun _ => ⟨by decide +kernel, q2191, q93, ⟨by decide +kernel, by decide +kernel, by decide +kernel⟩, by decide, by decide, by decide, by decide⟩, am_at_all cd15 v15⟩
theorem mv16 : am_MV am_mt 16 mT16 := ⟨_, pg16, fun _ => ⟨by decide +kernel, q2853, q123, ⟨by decide +kernel, by decide +kernel, by decide +kernel⟩, by decide, by decide, by decide, by decide⟩, am_at_all cd16 v16⟩
theorem mv17 : am_MV am_mt 17 mT17 := ⟨_, pg17, fun _ => ⟨by decide +kernel, q2196, q93, ⟨by decide +kernel, by decide +kernel, by decide +kernel⟩, by decide, by decide, by decide, by decide⟩, am_at_all cd17 v17⟩
theorem mv18 : am_MV am_mt 18 mT18 := ⟨_, pg18, fun _ => ⟨by decide +kernel, q2857, q123, ⟨by decide +kernel, by decide +kernel, by decide +kernel⟩, by decide, by decide, by decide, by decide⟩, am_at_all cd18 v18⟩
theorem mv19 : am_MV am_mt 19 mT19 := ⟨_, pg19, fun _ => ⟨by decide +kernel, q2202, q93, ⟨by decide +kernel, by decide +kernel, by decide +kernel⟩, by decide, by decide, by decide, by decide⟩, am_at_all cd19 v19⟩
theorem mv20 : am_MV am_mt 20 mT20 := ⟨_, pg20, fun _ => ⟨by decide +kernel, q2861, q123, ⟨by decide +kernel, by decide +kernel, by decide +kernel⟩, by decide, by decide, by decide, by decide⟩, am_at_all cd20 v20⟩
theorem mv21 : am_MV am_mt 21 mT21 := ⟨_, pg21, fun _ => ⟨by decide +kernel, q2237, q93, ⟨by decide +kernel, by decide +kernel, by decide +kernel⟩, by decide, by decide, by decide, by decide⟩, am_at_all cd21 v21⟩
theorem mv22 : am_MV am_mt 22 mT22 := ⟨_, pg22, fun _ => ⟨by decide +kernel, q2865, q123, ⟨by decide +kernel, by decide +kernel, by decide +kernel⟩, by decide, by decide, by decide, by decide⟩, am_at_all cd22 v22⟩
theorem mv23 : am_MV am_mt 23 mT23 := ⟨_, pg23, fun _ => ⟨by decide +kernel, q2246, q93, ⟨by decide +kernel, by decide +kernel, by decide +kernel⟩, by decide, by decide, by decide, by decide⟩, am_at_all cd23 v23⟩
theorem mv24 : am_MV am_mt 24 mT24 := ⟨_, pg24, fun _ => ⟨by decide +kernel, q2869, q123, ⟨by decide +kernel, by decide +kernel, by decide +kernel⟩, by decide, by decide, by decide, by decide⟩, am_at_all cd24 v24⟩
theorem mv25 : am_MV am_mt 25 mT25 := ⟨_, pg25, fun _ => ⟨by decide +kernel, q2348, q93, ⟨by decide +kernel, by decide +kernel, by decide +kernel⟩, by decide, by decide, by decide, by decide⟩, am_at_all cd25 v25⟩
theorem mv26 : am_MV am_mt 26 mT26 := ⟨_, pg26, fun _ => ⟨by decide +kernel, q2911, q123, ⟨by decide +kernel, by decide +kernel, by decide +kernel⟩, by decide, by decide, by decide, by decide⟩, am_at_all cd26 v26⟩
theorem mv27 : am_MV am_mt 27 mT27 := ⟨_, pg27, fun _ => ⟨by decide +kernel, q158, q94, ⟨by decide +kernel, by decide +kernel, by decide +kernel⟩, by decide, by decide, by decide, by decide⟩, am_at_all cd27 v27⟩
theorem mv28 : am_MV am_mt 28 mT28 := ⟨_, pg28, fun _ => ⟨by decide +kernel, q314, q102, ⟨by decide +kernel, by decide +kernel, by decide +kernel⟩, by decide, by decide, by decide, by decide⟩, am_at_all cd28 v28⟩
theorem mv29 : am_MV am_mt 29 mT29 := ⟨_, pg29, fun _ => ⟨by decide +kernel, q1033, q122, ⟨by decide +kernel, by decide +kernel, by decide +kernel⟩, by decide, by decide, by decide, by decide⟩, am_at_all cd29 v29⟩
theorem mv30 : am_MV am_mt 30 mT30 := ⟨_, pg30, fun _ => ⟨by decide +kernel, q2358, q123, ⟨by decide +kernel, by decide +kernel, by decide +kernel⟩, by decide, by decide, by decide, by decide⟩, am_at_all cd30 v30⟩
theorem mv31 : am_MV am_mt 31 mT31 := ⟨_, pg31, fun _ => ⟨by decide +kernel, q1086, q93, ⟨by decide +kernel, by decide +kernel, by decide +kernel⟩, by decide, by decide, by decide, by decide⟩, am_at_all cd31 v31⟩
theorem mv32 : am_MV am_mt 32 mT32 := ⟨_, pg32, fun _ => ⟨by decide +kernel, q1093, q93, ⟨by decide +kernel, by decide +kernel, by decide +kernel⟩, by decide, by decide, by decide, by decide⟩, am_at_all cd32 v32⟩
theorem mv33 : am_MV am_mt 33 mT33 := ⟨_, pg33, fun _ => ⟨by decide +kernel, q1102, q94, ⟨by decide +kernel, by decide +kernel, by decide +kernel⟩, by decide, by decide, by decide, by decide⟩, am_at_all cd33 v33⟩
theorem mv34 : am_MV am_mt 34 mT34 := ⟨_, pg34, fun _ => ⟨by decide +kernel, q360, q101, ⟨by decide +kernel, by decide +kernel, by decide +kernel⟩, by decide, by decide, by decide, by decide⟩, am_at_all cd34 v34⟩
theorem mv35 : am_MV am_mt 35 mT35 := ⟨_, pg35, fun _ => ⟨by decide +kernel, q2607, q123, ⟨by decide +kernel, by decide +kernel, by decide +kernel⟩, by decide, by decide, by decide, by decide⟩, am_at_all cd35 v35⟩
theorem mv36 : am_MV am_mt 36 mT36 := ⟨_, pg36, fun _ => ⟨by decide +kernel, q2618, q123, ⟨by decide +kernel, by decide +kernel, by decide +kernel⟩, by decide, by decide, by decide, by decide⟩, am_at_all cd36 v36⟩
theorem mv37 : am_MV am_mt 37 mT37 := ⟨_, pg37, fun _ => ⟨by decide +kernel, q2622, q123, ⟨by decide +kernel, by decide +kernel, by decide +kernel⟩, by decide, by decide, by decide, by decide⟩, am_at_all cd37 v37⟩
theorem mv38 : am_MV am_mt 38 mT38 := ⟨_, pg38, fun _ => ⟨by decide +kernel, q2664, q123, ⟨by decide +kernel, by decide +kernel, by decide +kernel⟩, by decide, by decide, by decide, by decide⟩, am_at_all cd38 v38⟩
theorem mv39 : am_MV am_mt 39 mT39 := ⟨_, pg39, fun _ => ⟨by decide +kernel, q2626, q123, ⟨by decide +kernel, by decide +kernel, by decide +kernel⟩, by decide, by decide, by decide, by decide⟩, am_at_all cd39 v39⟩
theorem mv40 : am_MV am_mt 40 mT40 := ⟨_, pg40, fun _ => ⟨by decide +kernel, q2672, q123, ⟨by decide +kernel, by decide +kernel, by decide +kernel⟩, by decide, by decide, by decide, by decide⟩, am_at_all cd40 v40⟩
theorem mv41 : am_MV am_mt 41 mT41 := ⟨_, pg41, fun _ => ⟨by decide +kernel, q2688, q123, ⟨by decide +kernel, by decide +kernel, by decide +kernel⟩, by decide, by decide, by decide, by decide⟩, am_at_all cd41 v41⟩
theorem mv42 : am_MV am_mt 42 mT42 := ⟨_, pg42, fun _ => ⟨by decide +kernel, q2692, q123, ⟨by decide +kernel, by decide +kernel, by decide +kernel⟩, by decide, by decide, by decide, by decide⟩, am_at_all cd42 v42⟩
theorem mv43 : am_MV am_mt 43 mT43 := ⟨_, pg43, fun _ => ⟨by decide +kernel, q1470, q101, ⟨by decide +kernel, by decide +kernel, by decide +kernel⟩, by decide, by decide, by decide, by decide⟩, am_at_all cd43 v43⟩
theorem mv44 : am_MV am_mt 44 mT44 := ⟨_, pg44, fun _ => ⟨by decide +kernel, q2052, q102, ⟨by decide +kernel, by decide +kernel, by decide +kernel⟩, by decide, by decide, by decide, by decide⟩, am_at_all cd44 v44⟩
theorem mv45 : am_MV am_mt 45 mT45 := ⟨_, pg45, fun _ => ⟨by decide +kernel, q2754, q123, ⟨by decide +kernel, by decide +kernel, by decide +kernel⟩, by decide, by decide, by decide, by decide⟩, am_at_all cd45 v45⟩
theorem mv46 : am_MV am_mt 46 mT46 := ⟨_, pg46, fun _ => ⟨by decide +kernel, q2746, q123, ⟨by decide +kernel, by decide +kernel, by decide +kernel⟩, by decide, by decide, by decide, by decide⟩, am_at_all cd46 v46⟩
theorem mv47 : am_MV am_mt 47 mT47 := ⟨_, pg47, fun _ => ⟨by decide +kernel, q2056, q105, ⟨by decide +kernel, by decide +kernel, by decide +kernel⟩, by decide, by decide, by decide, by decide⟩, am_at_all cd47 v47⟩
theorem mv48 : am_MV am_mt 48 mT48 := ⟨_, pg48, fun _ => ⟨by decide +kernel, q2750, q123, ⟨by decide +kernel, by decide +kernel, by decide +kernel⟩, by decide, by decide, by decide, by decide⟩, am_at_all cd48 v48⟩
theorem mv49 : am_MV am_mt 49 mT49 := ⟨_, pg49, fun _ => ⟨by decide +kernel, q2039, q102, ⟨by decide +kernel, by decide +kernel, by decide +kernel⟩, by decide, by decide, by decide, by decide⟩, am_at_all cd49 v49⟩
theorem mv50 : am_MV am_mt 50 mT50 := ⟨_, pg50, fun _ => ⟨by decide +kernel, q2735, q123, ⟨by decide +kernel, by decide +kernel, by decide +kernel⟩, by decide, by decide, by decide, by decide⟩, am_at_all cd50 v50⟩
theorem mv51 : am_MV am_mt 51 mT51 := ⟨_, pg51, fun _ => ⟨by decide +kernel, q2724, q123, ⟨by decide +kernel, by decide +kernel, by decide +kernel⟩, by decide, by decide, by decide, by decide⟩, am_at_all cd51 v51⟩
theorem mv52 : am_MV am_mt 52 mT52 := ⟨_, pg52, fun _ => ⟨by decide +kernel, q2700, q123, ⟨by decide +kernel, by decide +kernel, by decide +kernel⟩, by decide, by decide, by decide, by decide⟩, am_at_all cd52 v52⟩
theorem mv53 : am_MV am_mt 53 mT53 := ⟨_, pg53, fun _ => ⟨by decide +kernel, q2720, q123, ⟨by decide +kernel, by decide +kernel, by decide +kernel⟩, by decide, by decide, by decide, by decide⟩, am_at_all cd53 v53⟩
theorem mv54 : am_MV am_mt 54 mT54 := ⟨_, pg54, fun _ => ⟨by decide +kernel, q2224, q136, ⟨by decide +kernel, by decide +kernel, by decide +kernel⟩, by decide, by decide, by decide, by decide⟩, am_at_all cd54 v54⟩
theorem mv55 : am_MV am_mt 55 mT55 := ⟨_, pg55, fun _ => ⟨by decide +kernel, q2212, q137, ⟨by decide +kernel, by decide +kernel, by decide +kernel⟩, by decide, by decide, by decide, by decide⟩, am_at_all cd55 v55⟩
theorem mv56 : am_MV am_mt 56 mT56 := ⟨_, pg56, fun _ => ⟨by decide +kernel, q2230, q138, ⟨by decide +kernel, by decide +kernel, by decide +kernel⟩, by decide, by decide, by decide, by decide⟩, am_at_all cd56 v56⟩
theorem mv57 : am_MV am_mt 57 mT57 := ⟨_, pg57, fun _ => ⟨by decide +kernel, q2218, q139, ⟨by decide +kernel, by decide +kernel, by decide +kernel⟩, by decide, by decide, by decide, by decide⟩, am_at_all cd57 v57⟩
theorem mv58 : am_MV am_mt 58 mT58 := ⟨_, pg58, fun _ => ⟨by decide +kernel, q2221, q140, ⟨by decide +kernel, by decide +kernel, by decide +kernel⟩, by decide, by decide, by decide, by decide⟩, am_at_all cd58 v58⟩
theorem mv59 : am_MV am_mt 59 mT59 := ⟨_, pg59, fun _ => ⟨by decide +kernel, q2209, q141, ⟨by decide +kernel, by decide +kernel, by decide +kernel⟩, by decide, by decide, by decide, by decide⟩, am_at_all cd59 v59⟩
theorem mv60 : am_MV am_mt 60 mT60 := ⟨_, pg60, fun _ => ⟨by decide +kernel, q2233, q142, ⟨by decide +kernel, by decide +kernel, by decide +kernel⟩, by decide, by decide, by decide, by decide⟩, am_at_all cd60 v60⟩
theorem mv61 : am_MV am_mt 61 mT61 := ⟨_, pg61, fun _ => ⟨by decide +kernel, q2227, q143, ⟨by decide +kernel, by decide +kernel, by decide +kernel⟩, by decide, by decide, by decide, by decide⟩, am_at_all cd61 v61⟩
theorem mv62 : am_MV am_mt 62 mT62 := ⟨_, pg62, fun _ => ⟨by decide +kernel, q2215, q135, ⟨by decide +kernel, by decide +kernel, by decide +kernel⟩, by decide, by decide, by decide, by decide⟩, am_at_all cd62 v62⟩
theorem mv63 : am_MV am_mt 63 mT63 := ⟨_, pg63, fun _ => ⟨by decide +kernel, q1124, q125, ⟨by decide +kernel, by decide +kernel, by decide +kernel⟩, by decide, by decide, by decide, by decide⟩, am_at_all cd63 v63⟩
theorem mv64 : am_MV am_mt 64 mT64 := ⟨_, pg64, fun _ => ⟨by decide +kernel, q1151, q125, ⟨by decide +kernel, by decide +kernel, by decide +kernel⟩, by decide, by decide, by decide, by decide⟩, am_at_all cd64 v64⟩
theorem mv65 : am_MV am_mt 65 mT65 := ⟨_, pg65, fun _ => ⟨by decide +kernel, q1215, q125, ⟨by decide +kernel, by decide +kernel, by decide +kernel⟩, by decide, by decide, by decide, by decide⟩, am_at_all cd65 v65⟩
theorem mv66 : am_MV am_mt 66 mT66 := ⟨_, pg66, fun _ => ⟨by decide +kernel, q1439, q104, ⟨by decide +kernel, by decide +kernel, by decide +kernel⟩, by decide, by decide, by decide, by decide⟩, am_at_all cd66 v66⟩
theorem mv67 : am_MV am_mt 67 mT67 := ⟨_, pg67, fun _ => ⟨by decide +kernel, q2610, q123, ⟨by decide +kernel, by decide +kernel, by decide +kernel⟩, by decide, by decide, by decide, by decide⟩, am_at_all cd67 v67⟩
theorem mv68 : am_MV am_mt 68 mT68 := ⟨_, pg68, fun _ => ⟨by decide +kernel, q2633, q123, ⟨by decide +kernel, by decide +kernel, by decide +kernel⟩, by decide, by decide, by decide, by decide⟩, am_at_all cd68 v68⟩
theorem mv69 : am_MV am_mt 69 mT69 := ⟨_, pg69, fun _ => ⟨by decide +kernel, q2728, q123, ⟨by decide +kernel, by decide +kernel, by decide +kernel⟩, by decide, by decide, by decide, by decide⟩, am_at_all cd69 v69⟩
theorem mv70 : am_MV am_mt 70 mT70 := ⟨_, pg70, fun _ => ⟨by decide +kernel, q2250, q122, ⟨by decide +kernel, by decide +kernel, by decide +kernel⟩, by decide, by decide, by decide, by decide⟩, am_at_all cd70 v70⟩
theorem mv71 : am_MV am_mt 71 mT71 := ⟨_, pg71, fun _ => ⟨by decide +kernel, q2873, q123, ⟨by decide +kernel, by decide +kernel, by decide +kernel⟩, by decide, by decide, by decide, by decide⟩, am_at_all cd71 v71⟩
theorem mv72 : am_MV am_mt 72 mT72 := ⟨_, pg72, fun _ => ⟨by decide +kernel, q2877, q123, ⟨by decide +kernel, by decide +kernel, by decide +kernel⟩, by decide, by decide, by decide, by decide⟩, am_at_all cd72 v72⟩
theorem mv73 : am_MV am_mt 73 mT73 := ⟨_, pg73, fun _ => ⟨by decide +kernel, q2881, q123, ⟨by decide +kernel, by decide +kernel, by decide +kernel⟩, by decide, by decide, by decide, by decide⟩, am_at_all cd73 v73⟩
theorem mv74 : am_MV am_mt 74 mT74 := ⟨_, pg74, fun _ => ⟨by decide +kernel, q2899, q123, ⟨by decide +kernel, by decide +kernel, by decide +kernel⟩, by decide, by decide, by decide, by decide⟩, am_at_all cd74 v74⟩
theorem mv75 : am_MV am_mt 75 mT75 := ⟨_, pg75, fun _ => ⟨by decide +kernel, q201, q98, ⟨by decide +kernel, by decide +kernel, by decide +kernel⟩, by decide, by decide, by decide, by decide⟩, am_at_all cd75 v75⟩
theorem mv76 : am_MV am_mt 76 mT76 := ⟨_, pg76, fun _ => ⟨by decide +kernel, q233, q101, ⟨by decide +kernel, by decide +kernel, by decide +kernel⟩, by decide, by decide, by decide, by decide⟩, am_at_all cd76 v76⟩
theorem mv77 : am_MV am_mt 77 mT77 := ⟨_, pg77, fun _ => ⟨by decide +kernel, q322, q104, ⟨by decide +kernel, by decide +kernel, by decide +kernel⟩, by decide, by decide, by decide, by decide⟩, am_at_all cd77 v77⟩
theorem mv78 : am_MV am_mt 78 mT78 := ⟨_, pg78, fun _ => ⟨by decide +kernel, q354, q102, ⟨by decide +kernel, by decide +kernel, by decide +kernel⟩, by decide, by decide, by decide, by decide⟩, am_at_all cd78 v78⟩
theorem mv79 : am_MV am_mt 79 mT79 := ⟨_, pg79, fun _ => ⟨by decide +kernel, q1106, q101, ⟨by decide +kernel, by decide +kernel, by decide +kernel⟩, by decide, by decide, by decide, by decide⟩, am_at_all cd79 v79⟩
theorem mv80 : am_MV am_mt 80 mT80 := ⟨_, pg80, fun _ => ⟨by decide +kernel, q1112, q94, ⟨by decide +kernel, by decide +kernel, by decide +kernel⟩, by decide, by decide, by decide, by decide⟩, am_at_all cd80 v80⟩
theorem mv81 : am_MV am_mt 81 mT81 := ⟨_, pg81, fun _ => ⟨by decide +kernel, q1329, q94, ⟨by decide +kernel, by decide +kernel, by decide +kernel⟩, by decide, by decide, by decide, by decide⟩, am_at_all cd81 v81⟩
theorem mv82 : am_MV am_mt 82 mT82 := ⟨_, pg82, fun _ => ⟨by decide +kernel, q1334, q94, ⟨by decide +kernel, by decide +kernel, by decide +kernel⟩, by decide, by decide, by decide, by decide⟩, am_at_all cd82 v82⟩
theorem mv83 : am_MV am_mt 83 mT83 := ⟨_, pg83, fun _ => ⟨by decide +kernel, q1339, q94, ⟨by decide +kernel, by decide +kernel, by decide +kernel⟩, by decide, by decide, by decide, by decide⟩, am_at_all cd83 v83⟩
theorem mv84 : am_MV am_mt 84 mT84 := ⟨_, pg84, fun _ => ⟨by decide +kernel, q1499, q94, ⟨by decide +kernel, by decide +kernel, by decide +kernel⟩, by decide, by decide, by decide, by decide⟩, am_at_all cd84 v84⟩
theorem mv85 : am_MV am_mt 85 mT85 := ⟨_, pg85, fun _ => ⟨by decide +kernel, q1991, q94, ⟨by decide +kernel, by decide +kernel, by decide +kernel⟩, by decide, by decide, by decide, by decide⟩, am_at_all cd85 v85⟩
theorem mv86 : am_MV am_mt 86 mT86 := ⟨_, pg86, fun _ => ⟨by decide +kernel, q2002, q94, ⟨by decide +kernel, by decide +kernel, by decide +kernel⟩, by decide, by decide, by decide, by decide⟩, am_at_all cd86 v86⟩
theorem mv87 : am_MV am_mt 87 mT87 := ⟨_, pg87, fun _ => ⟨by decide +kernel, q2613, q123, ⟨by decide +kernel, by decide +kernel, by decide +kernel⟩, by decide, by decide, by decide, by decide⟩, am_at_all cd87 v87⟩
theorem mv88 : am_MV am_mt 88 mT88 := ⟨_, pg88, fun _ => ⟨by decide +kernel, q2630, q123, ⟨by decide +kernel, by decide +kernel, by decide +kernel⟩, by decide, by decide, by decide, by decide⟩, am_at_all cd88 v88⟩
theorem mv89 : am_MV am_mt 89 mT89 := ⟨_, pg89, fun _ => ⟨by decide +kernel, q2656, q123, ⟨by decide +kernel, by decide +kernel, by decide +kernel⟩, by decide, by decide, by decide, by decide⟩, am_at_all cd89 v89⟩
theorem mv90 : am_MV am_mt 90 mT90 := ⟨_, pg90, fun _ => ⟨by decide +kernel, q2660, q123, ⟨by decide +kernel, by decide +kernel, by decide +kernel⟩, by decide, by decide, by decide, by decide⟩, am_at_all cd90 v90⟩
theorem mv91 : am_MV am_mt 91 mT91 := ⟨_, pg91, fun _ => ⟨by decide +kernel, q2668, q123, ⟨by decide +kernel, by decide +kernel, by decide +kernel⟩, by decide, by decide, by decide, by decide⟩, am_at_all cd91 v91⟩
theorem mv92 : am_MV am_mt 92 mT92 := ⟨_, pg92, fun _ => ⟨by decide +kernel, q2676, q123, ⟨by decide +kernel, by decide +kernel, by decide +kernel⟩, by decide, by decide, by decide, by decide⟩, am_at_all cd92 v92⟩
theorem mv93 : am_MV am_mt 93 mT93 := ⟨_, pg93, fun _ => ⟨by decide +kernel, q2680, q123, ⟨by decide +kernel, by decide +kernel, by decide +kernel⟩, by decide, by decide, by decide, by decide⟩, am_at_all cd93 v93⟩
theorem mv94 : am_MV am_mt 94 mT94 := ⟨_, pg94, fun _ => ⟨by decide +kernel, q2696, q123, ⟨by decide +kernel, by decide +kernel, by decide +kernel⟩, by decide, by decide, by decide, by decide⟩, am_at_all cd94 v94⟩
theorem mv95 : am_MV am_mt 95 mT95 := ⟨_, pg95, fun _ => ⟨by decide +kernel, q2712, q123, ⟨by decide +kernel, by decide +kernel, by decide +kernel⟩, by decide, by decide, by decide, by decide⟩, am_at_all cd95 v95⟩
theorem mv96 : am_MV am_mt 96 mT96 := ⟨_, pg96, fun _ => ⟨by decide +kernel, q2810, q123, ⟨by decide +kernel, by decide +kernel, by decide +kernel⟩, by decide, by decide, by decide, by decide⟩, am_at_all cd96 v96⟩
theorem mv97 : am_MV am_mt 97 mT97 := ⟨_, pg97, fun _ => ⟨by decide +kernel, q2817, q123, ⟨by decide +kernel, by decide +kernel, by decide +kernel⟩, by decide, by decide, by decide, by decide⟩, am_at_all cd97 v97⟩
theorem mv98 : am_MV am_mt 98 mT98 := ⟨_, pg98, fun _ => ⟨by decide +kernel, q2825, q123, ⟨by decide +kernel, by decide +kernel, by decide +kernel⟩, by decide, by decide, by decide, by decide⟩, am_at_all cd98 v98⟩
theorem mv99 : am_MV am_mt 99 mT99 := ⟨_, pg99, fun _ => ⟨by decide +kernel, q1473, q129, ⟨by decide +kernel, by decide +kernel, by decide +kernel⟩, by decide, by decide, by decide, by decide⟩, am_at_all cd99 v99⟩
theorem mv100 : am_MV am_mt 100 mT100 := ⟨_, pg100, fun _ => ⟨by decide +kernel, q1478, q101, ⟨by decide +kernel, by decide +kernel, by decide +kernel⟩, by decide, by decide, by decide, by decide⟩, am_at_all cd100 v100⟩
theorem mv101 : am_MV am_mt 101 mT101 := ⟨_, pg101, fun _ => ⟨by decide +kernel, q2731, q123, ⟨by decide +kernel, by decide +kernel, by decide +kernel⟩, by decide, by decide, by decide, by decide⟩, am_at_all cd101 v101⟩
theorem mv102 : am_MV am_mt 102 mT102 := ⟨_, pg102, fun _ => ⟨by decide +kernel, q1127, q124, ⟨by decide +kernel, by decide +kernel, by decide +kernel⟩, by decide, by decide, by decide, by decide⟩, am_at_all cd102 v102⟩
theorem mv103 : am_MV am_mt 103 mT103 := ⟨_, pg103, fun _ => ⟨by decide +kernel, q1154, q124, ⟨by decide +kernel, by decide +kernel, by decide +kernel⟩, by decide, by decide, by decide, by decide⟩, am_at_all cd103 v103⟩
theorem mv104 : am_MV am_mt 104 mT104 := ⟨_, pg104, fun _ => ⟨by decide +kernel, q1220, q112, ⟨by decide +kernel, by decide +kernel, by decide +kernel⟩, by decide, by decide, by decide, by decide⟩, am_at_all cd104 v104⟩
theorem mv105 : am_MV am_mt 105 mT105 := ⟨_, pg105, fun _ => ⟨by decide +kernel, q473, q104, ⟨by decide +kernel, by decide +kernel, by decide +kernel⟩, by decide, by decide, by decide, by decide⟩, am_at_all cd105 v105⟩
theorem mv106 : am_MV am_mt 106 mT106 := ⟨_, pg106, fun _ => ⟨by decide +kernel, q2254, q133, ⟨by decide +kernel, by decide +kernel, by decide +kernel⟩, by decide, by decide, by decide, by decide⟩, am_at_all cd106 v106⟩
theorem mv107 : am_MV am_mt 107 mT107 := ⟨_, pg107, fun _ => ⟨by decide +kernel, q2766, q123, ⟨by decide +kernel, by decide +kernel, by decide +kernel⟩, by decide, by decide, by decide, by decide⟩, am_at_all cd107 v107⟩
theorem mv108 : am_MV am_mt 108 mT108 := ⟨_, pg108, fun _ => ⟨by decide +kernel, q2885, q123, ⟨by decide +kernel, by decide +kernel, by decide +kernel⟩, by decide, by decide, by decide, by decide⟩, am_at_all cd108 v108⟩
theorem mv109 : am_MV am_mt 109 mT109 := ⟨_, pg109, fun _ => ⟨by decide +kernel, q2891, q123, ⟨by decide +kernel, by decide +kernel, by decide +kernel⟩, by decide, by decide, by decide, by decide⟩, am_at_all cd109 v109⟩
theorem mv110 : am_MV am_mt 110 mT110 := ⟨_, pg110, fun _ => ⟨by decide +kernel, q2895, q123, ⟨by decide +kernel, by decide +kernel, by decide +kernel⟩, by decide, by decide, by decide, by decide⟩, am_at_all cd110 v110⟩
theorem mv111 : am_MV am_mt 111 mT111 := ⟨_, pg111, fun _ => ⟨by decide +kernel, q2778, q123, ⟨by decide +kernel, by decide +kernel, by decide +kernel⟩, by decide, by decide, by decide, by decide⟩, am_at_all cd111 v111⟩
theorem mv112 : am_MV am_mt 112 mT112 := ⟨_, pg112, fun _ => ⟨by decide +kernel, q2704, q123, ⟨by decide +kernel, by decide +kernel, by decide +kernel⟩, by decide, by decide, by decide, by decide⟩, am_at_all cd112 v112⟩
theorem mv113 : am_MV am_mt 113 mT113 := ⟨_, pg113, fun _ => ⟨by decide +kernel, q2903, q123, ⟨by decide +kernel, by decide +kernel, by decide +kernel⟩, by decide, by decide, by decide, by decide⟩, am_at_all cd113 v113⟩
theorem mv114 : am_MV am_mt 114 mT114 := ⟨_, pg114, fun _ => ⟨by decide +kernel, q2907, q123, ⟨by decide +kernel, by decide +kernel, by decide +kernel⟩, by decide, by decide, by decide, by decide⟩, am_at_all cd114 v114⟩
theorem mv115 : am_MV am_mt 115 mT115 := ⟨_, pg115, fun _ => ⟨by decide +kernel, q204, q97, ⟨by decide +kernel, by decide +kernel, by decide +kernel⟩, by decide, by decide, by decide, by decide⟩, am_at_all cd115 v115⟩
theorem mv116 : am_MV am_mt 116 mT116 := ⟨_, pg116, fun _ => ⟨by decide +kernel, q236, q100, ⟨by decide +kernel, by decide +kernel, by decide +kernel⟩, by decide, by decide, by decide, by decide⟩, am_at_all cd116 v116⟩
theorem mv117 : am_MV am_mt 117 mT117 := ⟨_, pg117, fun _ => ⟨by decide +kernel, q325, q103, ⟨by decide +kernel, by decide +kernel, by decide +kernel⟩, by decide, by decide, by decide, by decide⟩, am_at_all cd117 v117⟩
theorem mv118 : am_MV am_mt 118 mT118 := ⟨_, pg118, fun _ => ⟨by decide +kernel, q363, q105, ⟨by decide +kernel, by decide +kernel, by decide +kernel⟩, by decide, by decide, by decide, by decide⟩, am_at_all cd118 v118⟩
theorem mv119 : am_MV am_mt 119 mT119 := ⟨_, pg119, fun _ => ⟨by decide +kernel, q391, q101, ⟨by decide +kernel, by decide +kernel, by decide +kernel⟩, by decide, by decide, by decide, by decide⟩, am_at_all cd119 v119⟩
theorem mv120 : am_MV am_mt 120 mT120 := ⟨_, pg120, fun _ => ⟨by decide +kernel, q469, q104, ⟨by decide +kernel, by decide +kernel, by decide +kernel⟩, by decide, by decide, by decide, by decide⟩, am_at_all cd120 v120⟩
theorem mv121 : am_MV am_mt 121 mT121 := ⟨_, pg121, fun _ => ⟨by decide +kernel, q857, q104, ⟨by decide +kernel, by decide +kernel, by decide +kernel⟩, by decide, by decide, by decide, by decide⟩, am_at_all cd121 v121⟩
theorem mv122 : am_MV am_mt 122 mT122 := ⟨_, pg122, fun _ => ⟨by decide +kernel, q1115, q94, ⟨by decide +kernel, by decide +kernel, by decide +kernel⟩, by decide, by decide, by decide, by decide⟩, am_at_all cd122 v122⟩
theorem mv123 : am_MV am_mt 123 mT123 := ⟨_, pg123, fun _ => ⟨by decide +kernel, q1119, q94, ⟨by decide +kernel, by decide +kernel, by decide +kernel⟩, by decide, by decide, by decide, by decide⟩, am_at_all cd123 v123⟩
theorem mv124 : am_MV am_mt 124 mT124 := ⟨_, pg124, fun _ => ⟨by decide +kernel, q1275, q112, ⟨by decide +kernel, by decide +kernel, by decide +kernel⟩, by decide, by decide, by decide, by decide⟩, am_at_all cd124 v124⟩
theorem mv125 : am_MV am_mt 125 mT125 := ⟨_, pg125, fun _ => ⟨by decide +kernel, q611, q112, ⟨by decide +kernel, by decide +kernel, by decide +kernel⟩, by decide, by decide, by decide, by decide⟩, am_at_all cd125 v125⟩
theorem mv126 : am_MV am_mt 126 mT126 := ⟨_, pg126, fun _ => ⟨by decide +kernel, q1343, q94, ⟨by decide +kernel, by decide +kernel, by decide +kernel⟩, by decide, by decide, by decide, by decide⟩, am_at_all cd126 v126⟩
theorem mv127 : am_MV am_mt 127 mT127 := ⟨_, pg127, fun _ => ⟨by decide +kernel, q1427, q94, ⟨by decide +kernel, by decide +kernel, by decide +kernel⟩, by decide, by decide, by decide, by decide⟩, am_at_all cd127 v127⟩
theorem mv128 : am_MV am_mt 128 mT128 := ⟨_, pg128, fun _ => ⟨by decide +kernel, q1431, q94, ⟨by decide +kernel, by decide +kernel, by decide +kernel⟩, by decide, by decide, by decide, by decide⟩, am_at_all cd128 v128⟩
theorem mv129 : am_MV am_mt 129 mT129 := ⟨_, pg129, fun _ => ⟨by decide +kernel, q1435, q94, ⟨by decide +kernel, by decide +kernel, by decide +kernel⟩, by decide, by decide, by decide, by decide⟩, am_at_all cd129 v129⟩
theorem mv130 : am_MV am_mt 130 mT130 := ⟨_, pg130, fun _ => ⟨by decide +kernel, q1444, q102, ⟨by decide +kernel, by decide +kernel, by decide +kernel⟩, by decide, by decide, by decide, by decide⟩, am_at_all cd130 v130⟩
theorem mv131 : am_MV am_mt 131 mT131 := ⟨_, pg131, fun _ => ⟨by decide +kernel, q1504, q130, ⟨by decide +kernel, by decide +kernel, by decide +kernel⟩, by decide, by decide, by decide, by decide⟩, am_at_all cd131 v131⟩
theorem mv132 : am_MV am_mt 132 mT132 := ⟨_, pg132, fun _ => ⟨by decide +kernel, q1559, q94, ⟨by decide +kernel, by decide +kernel, by decide +kernel⟩, by decide, by decide, by decide, by decide⟩, am_at_all cd132 v132⟩
theorem mv133 : am_MV am_mt 133 mT133 := ⟨_, pg133, fun _ => ⟨by decide +kernel, q1586, q132, ⟨by decide +kernel, by decide +kernel, by decide +kernel⟩, by decide, by decide, by decide, by decide⟩, am_at_all cd133 v133⟩
theorem mv134 : am_MV am_mt 134 mT134 := ⟨_, pg134, fun _ => ⟨by decide +kernel, q1608, q94, ⟨by decide +kernel, by decide +kernel, by decide +kernel⟩, by decide, by decide, by decide, by decide⟩, am_at_all cd134 v134⟩
theorem mv135 : am_MV am_mt 135 mT135 := ⟨_, pg135, fun _ => ⟨by decide +kernel, q608, q111, ⟨by decide +kernel, by decide +kernel, by decide +kernel⟩, by decide, by decide, by decide, by decide⟩, am_at_all cd135 v135⟩
theorem mv136 : am_MV am_mt 136 mT136 := ⟨_, pg136, fun _ => ⟨by decide +kernel, q1997, q94, ⟨by decide +kernel, by decide +kernel, by decide +kernel⟩, by decide, by decide, by decide, by decide⟩, am_at_all cd136 v136⟩
theorem mv137 : am_MV am_mt 137 mT137 := ⟨_, pg137, fun _ => ⟨by decide +kernel, q2006, q133, ⟨by decide +kernel, by decide +kernel, by decide +kernel⟩, by decide, by decide, by decide, by decide⟩, am_at_all cd137 v137⟩
theorem mv138 : am_MV am_mt 138 mT138 := ⟨_, pg138, fun _ => ⟨by decide +kernel, q2081, q102, ⟨by decide +kernel, by decide +kernel, by decide +kernel⟩, by decide, by decide, by decide, by decide⟩, am_at_all cd138 v138⟩
theorem mv139 : am_MV am_mt 139 mT139 := ⟨_, pg139, fun _ => ⟨by decide +kernel, q2089, q102, ⟨by decide +kernel, by decide +kernel, by decide +kernel⟩, by decide, by decide, by decide, by decide⟩, am_at_all cd139 v139⟩
theorem mv140 : am_MV am_mt 140 mT140 := ⟨_, pg140, fun _ => ⟨by decide +kernel, q2684, q123, ⟨by decide +kernel, by decide +kernel, by decide +kernel⟩, by decide, by decide, by decide, by decide⟩, am_at_all cd140 v140⟩
theorem mv141 : am_MV am_mt 141 mT141 := ⟨_, pg141, fun _ => ⟨by decide +kernel, q2708, q123, ⟨by decide +kernel, by decide +kernel, by decide +kernel⟩, by decide, by decide, by decide, by decide⟩, am_at_all cd141 v141⟩
theorem mv142 : am_MV am_mt 142 mT142 := ⟨_, pg142, fun _ => ⟨by decide +kernel, q2716, q123, ⟨by decide +kernel, by decide +kernel, by decide +kernel⟩, by decide, by decide, by decide, by decide⟩, am_at_all cd142 v142⟩
theorem mv143 : am_MV am_mt 143 mT143 := ⟨_, pg143, fun _ => ⟨by decide +kernel, q2762, q123, ⟨by decide +kernel, by decide +kernel, by decide +kernel⟩, by decide, by decide, by decide, by decide⟩, am_at_all cd143 v143⟩
theorem mv144 : am_MV am_mt 144 mT144 := ⟨_, pg144, fun _ => ⟨by decide +kernel, q2806, q123, ⟨by decide +kernel, by decide +kernel, by decide +kernel⟩, by decide, by decide, by decide, by decide⟩, am_at_all cd144 v144⟩
theorem mv145 : am_MV am_mt 145 mT145 := ⟨_, pg145, fun _ => ⟨by decide +kernel, q2813, q123, ⟨by decide +kernel, by decide +kernel, by decide +kernel⟩, by decide, by decide, by decide, by decide⟩, am_at_all cd145 v145⟩
theorem mv146 : am_MV am_mt 146 mT146 := ⟨_, pg146, fun _ => ⟨by decide +kernel, q2802, q123, ⟨by decide +kernel, by decide +kernel, by decide +kernel⟩, by decide, by decide, by decide, by decide⟩, am_at_all cd146 v146⟩
theorem mv147 : am_MV am_mt 147 mT147 := ⟨_, pg147, fun _ => ⟨by decide +kernel, q2821, q123, ⟨by decide +kernel, by decide +kernel, by decide +kernel⟩, by decide, by decide, by decide, by decide⟩, am_at_all cd147 v147⟩
theorem mv148 : am_MV am_mt 148 mT148 := ⟨_, pg148, fun _ => ⟨by decide +kernel, q2770, q123, ⟨by decide +kernel, by decide +kernel, by decide +kernel⟩, by decide, by decide, by decide, by decide⟩, am_at_all cd148 v148⟩
theorem mv149 : am_MV am_mt 149 mT149 := ⟨_, pg149, fun _ => ⟨by decide +kernel, q2829, q123, ⟨by decide +kernel, by decide +kernel, by decide +kernel⟩, by decide, by decide, by decide, by decide⟩, am_at_all cd149 v149⟩
theorem mv150 : am_MV am_mt 150 mT150 := ⟨_, pg150, fun _ => ⟨by decide +kernel, q2833, q123, ⟨by decide +kernel, by decide +kernel, by decide +kernel⟩, by decide, by decide, by decide, by decide⟩, am_at_all cd150 v150⟩
theorem mv151 : am_MV am_mt 151 mT151 := ⟨_, pg151, fun _ => ⟨by decide +kernel, q2790, q123, ⟨by decide +kernel, by decide +kernel, by decide +kernel⟩, by decide, by decide, by decide, by decide⟩, am_at_all cd151 v151⟩
theorem mv152 : am_MV am_mt 152 mT152 := ⟨_, pg152, fun _ => ⟨by decide +kernel, q1211, q118, ⟨by decide +kernel, by decide +kernel, by decide +kernel⟩, by decide, by decide, by decide, by decide⟩, am_at_all cd152 v152⟩
theorem mv153 : am_MV am_mt 153 mT153 := ⟨_, pg153, fun _ => ⟨by decide +kernel, q1158, q124, ⟨by decide +kernel, by decide +kernel, by decide +kernel⟩, by decide, by decide, by decide, by decide⟩, am_at_all cd153 v153⟩
theorem mv154 : am_MV am_mt 154 mT154 := ⟨_, pg154, fun _ => ⟨by decide +kernel, q829, q124, ⟨by decide +kernel, by decide +kernel, by decide +kernel⟩, by decide, by decide, by decide, by decide⟩, am_at_all cd154 v154⟩
theorem mv155 : am_MV am_mt 155 mT155 := ⟨_, pg155, fun _ => ⟨by decide +kernel, q1177, q113, ⟨by decide +kernel, by decide +kernel, by decide +kernel⟩, by decide, by decide, by decide, by decide⟩, am_at_all cd155 v155⟩
theorem mv156 : am_MV am_mt 156 mT156 := ⟨_, pg156, fun _ => ⟨by decide +kernel, q1223, q112, ⟨by decide +kernel, by decide +kernel, by decide +kernel⟩, by decide, by decide, by decide, by decide⟩, am_at_all cd156 v156⟩
theorem mv157 : am_MV am_mt 157 mT157 := ⟨_, pg157, fun _ => ⟨by decide +kernel, q476, q104, ⟨by decide +kernel, by decide +kernel, by decide +kernel⟩, by decide, by decide, by decide, by decide⟩, am_at_all cd157 v157⟩
theorem mv158 : am_MV am_mt 158 mT158 := ⟨_, pg158, fun _ => ⟨by decide +kernel, q624, q121, ⟨by decide +kernel, by decide +kernel, by decide +kernel⟩, by decide, by decide, by decide, by decide⟩, am_at_all cd158 v158⟩
theorem mv159 : am_MV am_mt 159 mT159 := ⟨_, pg159, fun _ => ⟨by decide +kernel, q2258, q122, ⟨by decide +kernel, by decide +kernel, by decide +kernel⟩, by decide, by decide, by decide, by decide⟩, am_at_all cd159 v159⟩
theorem mv160 : am_MV am_mt 160 mT160 := ⟨_, pg160, fun _ => ⟨by decide +kernel, q2271, q134, ⟨by decide +kernel, by decide +kernel, by decide +kernel⟩, by decide, by decide, by decide, by decide⟩, am_at_all cd160 v160⟩
theorem mv161 : am_MV am_mt 161 mT161 := ⟨_, pg161, fun _ => ⟨by decide +kernel, q2774, q123, ⟨by decide +kernel, by decide +kernel, by decide +kernel⟩, by decide, by decide, by decide, by decide⟩, am_at_all cd161 v161⟩
theorem mv162 : am_MV am_mt 162 mT162 := ⟨_, pg162, fun _ => ⟨by decide +kernel, q207, q96, ⟨by decide +kernel, by decide +kernel, by decide +kernel⟩, by decide, by decide, by decide, by decide⟩, am_at_all cd162 v162⟩
theorem mv163 : am_MV am_mt 163 mT163 := ⟨_, pg163, fun _ => ⟨by decide +kernel, q239, q99, ⟨by decide +kernel, by decide +kernel, by decide +kernel⟩, by decide, by decide, by decide, by decide⟩, am_at_all cd163 v163⟩
theorem mv164 : am_MV am_mt 164 mT164 := ⟨_, pg164, fun _ => ⟨by decide +kernel, q395, q101, ⟨by decide +kernel, by decide +kernel, by decide +kernel⟩, by decide, by decide, by decide, by decide⟩, am_at_all cd164 v164⟩
theorem mv165 : am_MV am_mt 165 mT165 := ⟨_, pg165, fun _ => ⟨by decide +kernel, q861, q104, ⟨by decide +kernel, by decide +kernel, by decide +kernel⟩, by decide, by decide, by decide, by decide⟩, am_at_all cd165 v165⟩
theorem mv166 : am_MV am_mt 166 mT166 := ⟨_, pg166, fun _ => ⟨by decide +kernel, q1279, q112, ⟨by decide +kernel, by decide +kernel, by decide +kernel⟩, by decide, by decide, by decide, by decide⟩, am_at_all cd166 v166⟩
theorem mv167 : am_MV am_mt 167 mT167 := ⟨_, pg167, fun _ => ⟨by decide +kernel, q615, q113, ⟨by decide +kernel, by decide +kernel, by decide +kernel⟩, by decide, by decide, by decide, by decide⟩, am_at_all cd167 v167⟩
theorem mv168 : am_MV am_mt 168 mT168 := ⟨_, pg168, fun _ => ⟨by decide +kernel, q1347, q94, ⟨by decide +kernel, by decide +kernel, by decide +kernel⟩, by decide, by decide, by decide, by decide⟩, am_at_all cd168 v168⟩
theorem mv169 : am_MV am_mt 169 mT169 := ⟨_, pg169, fun _ => ⟨by decide +kernel, q1449, q128, ⟨by decide +kernel, by decide +kernel, by decide +kernel⟩, by decide, by decide, by decide, by decide⟩, am_at_all cd169 v169⟩
theorem mv170 : am_MV am_mt 170 mT170 := ⟨_, pg170, fun _ => ⟨by decide +kernel, q1482, q128, ⟨by decide +kernel, by decide +kernel, by decide +kernel⟩, by decide, by decide, by decide, by decide⟩, am_at_all cd170 v170⟩
theorem mv171 : am_MV am_mt 171 mT171 := ⟨_, pg171, fun _ => ⟨by decide +kernel, q1486, q101, ⟨by decide +kernel, by decide +kernel, by decide +kernel⟩, by decide, by decide, by decide, by decide⟩, am_at_all cd171 v171⟩
theorem mv172 : am_MV am_mt 172 mT172 := ⟨_, pg172, fun _ => ⟨by decide +kernel, q1509, q101, ⟨by decide +kernel, by decide +kernel, by decide +kernel⟩, by decide, by decide, by decide, by decide⟩, am_at_all cd172 v172⟩
theorem mv173 : am_MV am_mt 173 mT173 := ⟨_, pg173, fun _ => ⟨by decide +kernel, q1566, q131, ⟨by decide +kernel, by decide +kernel, by decide +kernel⟩, by decide, by decide, by decide, by decide⟩, am_at_all cd173 v173⟩
theorem mv174 : am_MV am_mt 174 mT174 := ⟨_, pg174, fun _ => ⟨by decide +kernel, q1613, q133, ⟨by decide +kernel, by decide +kernel, by decide +kernel⟩, by decide, by decide, by decide, by decide⟩, am_at_all cd174 v174⟩
theorem mv175 : am_MV am_mt 175 mT175 := ⟨_, pg175, fun _ => ⟨by decide +kernel, q1648, q94, ⟨by decide +kernel, by decide +kernel, by decide +kernel⟩, by decide, by decide, by decide, by decide⟩, am_at_all cd175 v175⟩
theorem mv176 : am_MV am_mt 176 mT176 := ⟨_, pg176, fun _ => ⟨by decide +kernel, q2023, q134, ⟨by decide +kernel, by decide +kernel, by decide +kernel⟩, by decide, by decide, by decide, by decide⟩, am_at_all cd176 v176⟩
theorem mv177 : am_MV am_mt 177 mT177 := ⟨_, pg177, fun _ => ⟨by decide +kernel, q2048, q102, ⟨by decide +kernel, by decide +kernel, by decide +kernel⟩, by decide, by decide, by decide, by decide⟩, am_at_all cd177 v177⟩
theorem mv178 : am_MV am_mt 178 mT178 := ⟨_, pg178, fun _ => ⟨by decide +kernel, q2085, q102, ⟨by decide +kernel, by decide +kernel, by decide +kernel⟩, by decide, by decide, by decide, by decide⟩, am_at_all cd178 v178⟩
theorem mv179 : am_MV am_mt 179 mT179 := ⟨_, pg179, fun _ => ⟨by decide +kernel, q2739, q123, ⟨by decide +kernel, by decide +kernel, by decide +kernel⟩, by decide, by decide, by decide, by decide⟩, am_at_all cd179 v179⟩
theorem mv180 : am_MV am_mt 180 mT180 := ⟨_, pg180, fun _ => ⟨by decide +kernel, q2758, q123, ⟨by decide +kernel, by decide +kernel, by decide +kernel⟩, by decide, by decide, by decide, by decide⟩, am_at_all cd180 v180⟩
theorem mv181 : am_MV am_mt 181 mT181 := ⟨_, pg181, fun _ => ⟨by decide +kernel, q2782, q123, ⟨by decide +kernel, by decide +kernel, by decide +kernel⟩, by decide, by decide, by decide, by decide⟩, am_at_all cd181 v181⟩
theorem mv182 : am_MV am_mt 182 mT182 := ⟨_, pg182, fun _ => ⟨by decide +kernel, q2786, q123, ⟨by decide +kernel, by decide +kernel, by decide +kernel⟩, by decide, by decide, by decide, by decide⟩, am_at_all cd182 v182⟩
theorem mv183 : am_MV am_mt 183 mT183 := ⟨_, pg183, fun _ => ⟨by decide +kernel, q2798, q123, ⟨by decide +kernel, by decide +kernel, by decide +kernel⟩, by decide, by decide, by decide, by decide⟩, am_at_all cd183 v183⟩
theorem mv184 : am_MV am_mt 184 mT184 := ⟨_, pg184, fun _ => ⟨by decide +kernel, q2742, q123, ⟨by decide +kernel, by decide +kernel, by decide +kernel⟩, by decide, by decide, by decide, by decide⟩, am_at_all cd184 v184⟩
theorem mv185 : am_MV am_mt 185 mT185 := ⟨_, pg185, fun _ => ⟨by decide +kernel, q2837, q123, ⟨by decide +kernel, by decide +kernel, by decide +kernel⟩, by decide, by decide, by decide, by decide⟩, am_at_all cd185 v185⟩
theorem mv186 : am_MV am_mt 186 mT186 := ⟨_, pg186, fun _ => ⟨by decide +kernel, q1162, q124, ⟨by decide +kernel, by decide +kernel, by decide +kernel⟩, by decide, by decide, by decide, by decide⟩, am_at_all cd186 v186⟩
theorem mv187 : am_MV am_mt 187 mT187 := ⟨_, pg187, fun _ => ⟨by decide +kernel, q1167, q108, ⟨by decide +kernel, by decide +kernel, by decide +kernel⟩, by decide, by decide, by decide, by decide⟩, am_at_all cd187 v187⟩
theorem mv188 : am_MV am_mt 188 mT188 := ⟨_, pg188, fun _ => ⟨by decide +kernel, q1229, q124, ⟨by decide +kernel, by decide +kernel, by decide +kernel⟩, by decide, by decide, by decide, by decide⟩, am_at_all cd188 v188⟩
theorem mv189 : am_MV am_mt 189 mT189 := ⟨_, pg189, fun _ => ⟨by decide +kernel, q1235, q125, ⟨by decide +kernel, by decide +kernel, by decide +kernel⟩, by decide, by decide, by decide, by decide⟩, am_at_all cd189 v189⟩
theorem mv190 : am_MV am_mt 190 mT190 := ⟨_, pg190, fun _ => ⟨by decide +kernel, q1241, q108, ⟨by decide +kernel, by decide +kernel, by decide +kernel⟩, by decide, by decide, by decide, by decide⟩, am_at_all cd190 v190⟩
theorem mv191 : am_MV am_mt 191 mT191 := ⟨_, pg191, fun _ => ⟨by decide +kernel, q509, q112, ⟨by decide +kernel, by decide +kernel, by decide +kernel⟩, by decide, by decide, by decide, by decide⟩, am_at_all cd191 v191⟩
theorem mv192 : am_MV am_mt 192 mT192 := ⟨_, pg192, fun _ => ⟨by decide +kernel, q628, q121, ⟨by decide +kernel, by decide +kernel, by decide +kernel⟩, by decide, by decide, by decide, by decide⟩, am_at_all cd192 v192⟩
theorem mv193 : am_MV am_mt 193 mT193 := ⟨_, pg193, fun _ => ⟨by decide +kernel, q632, q121, ⟨by decide +kernel, by decide +kernel, by decide +kernel⟩, by decide, by decide, by decide, by decide⟩, am_at_all cd193 v193⟩
theorem mv194 : am_MV am_mt 194 mT194 := ⟨_, pg194, fun _ => ⟨by decide +kernel, q2275, q122, ⟨by decide +kernel, by decide +kernel, by decide +kernel⟩, by decide, by decide, by decide, by decide⟩, am_at_all cd194 v194⟩
theorem mv195 : am_MV am_mt 195 mT195 := ⟨_, pg195, fun _ => ⟨by decide +kernel, q2322, q136, ⟨by decide +kernel, by decide +kernel, by decide +kernel⟩, by decide, by decide, by decide, by decide⟩, am_at_all cd195 v195⟩
theorem mv196 : am_MV am_mt 196 mT196 := ⟨_, pg196, fun _ => ⟨by decide +kernel, q2284, q137, ⟨by decide +kernel, by decide +kernel, by decide +kernel⟩, by decide, by decide, by decide, by decide⟩, am_at_all cd196 v196⟩
theorem mv197 : am_MV am_mt 197 mT197 := ⟨_, pg197, fun _ => ⟨by decide +kernel, q2332, q138, ⟨by decide +kernel, by decide +kernel, by decide +kernel⟩, by decide, by decide, by decide, by decide⟩, am_at_all cd197 v197⟩
theorem mv198 : am_MV am_mt 198 mT198 := ⟨_, pg198, fun _ => ⟨by decide +kernel, q2310, q139, ⟨by decide +kernel, by decide +kernel, by decide +kernel⟩, by decide, by decide, by decide, by decide⟩, am_at_all cd198 v198⟩
theorem mv199 : am_MV am_mt 199 mT199 := ⟨_, pg199, fun _ => ⟨by decide +kernel, q2315, q140, ⟨by decide +kernel, by decide +kernel, by decide +kernel⟩, by decide, by decide, by decide, by decide⟩, am_at_all cd199 v199⟩
theorem mv200 : am_MV am_mt 200 mT200 := ⟨_, pg200, fun _ => ⟨by decide +kernel, q2281, q141, ⟨by decide +kernel, by decide +kernel, by decide +kernel⟩, by decide, by decide, by decide, by decide⟩, am_at_all cd200 v200⟩
theorem mv201 : am_MV am_mt 201 mT201 := ⟨_, pg201, fun _ => ⟨by decide +kernel, q2335, q142, ⟨by decide +kernel, by decide +kernel, by decide +kernel⟩, by decide, by decide, by decide, by decide⟩, am_at_all cd201 v201⟩
theorem mv202 : am_MV am_mt 202 mT202 := ⟨_, pg202, fun _ => ⟨by decide +kernel, q2329, q143, ⟨by decide +kernel, by decide +kernel, by decide +kernel⟩, by decide, by decide, by decide, by decide⟩, am_at_all cd202 v202⟩
theorem mv203 : am_MV am_mt 203 mT203 := ⟨_, pg203, fun _ => ⟨by decide +kernel, q2306, q135, ⟨by decide +kernel, by decide +kernel, by decide +kernel⟩, by decide, by decide, by decide, by decide⟩, am_at_all cd203 v203⟩
theorem mv204 : am_MV am_mt 204 mT204 := ⟨_, pg204, fun _ => ⟨by decide +kernel, q210, q95, ⟨by decide +kernel, by decide +kernel, by decide +kernel⟩, by decide, by decide, by decide, by decide⟩, am_at_all cd204 v204⟩
theorem mv205 : am_MV am_mt 205 mT205 := ⟨_, pg205, fun _ => ⟨by decide +kernel, q399, q101, ⟨by decide +kernel, by decide +kernel, by decide +kernel⟩, by decide, by decide, by decide, by decide⟩, am_at_all cd205 v205⟩
theorem mv206 : am_MV am_mt 206 mT206 := ⟨_, pg206, fun _ => ⟨by decide +kernel, q865, q104, ⟨by decide +kernel, by decide +kernel, by decide +kernel⟩, by decide, by decide, by decide, by decide⟩, am_at_all cd206 v206⟩
theorem mv207 : am_MV am_mt 207 mT207 := ⟨_, pg207, fun _ => ⟨by decide +kernel, q935, q104, ⟨by decide +kernel, by decide +kernel, by decide +kernel⟩, by decide, by decide, by decide, by decide⟩, am_at_all cd207 v207⟩
theorem mv208 : am_MV am_mt 208 mT208 := ⟨_, pg208, fun _ => ⟨by decide +kernel, q939, q121, ⟨by decide +kernel, by decide +kernel, by decide +kernel⟩, by decide, by decide, by decide, by decide⟩, am_at_all cd208 v208⟩
theorem mv209 : am_MV am_mt 209 mT209 := ⟨_, pg209, fun _ => ⟨by decide +kernel, q980, q104, ⟨by decide +kernel, by decide +kernel, by decide +kernel⟩, by decide, by decide, by decide, by decide⟩, am_at_all cd209 v209⟩
theorem mv210 : am_MV am_mt 210 mT210 := ⟨_, pg210, fun _ => ⟨by decide +kernel, q989, q104, ⟨by decide +kernel, by decide +kernel, by decide +kernel⟩, by decide, by decide, by decide, by decide⟩, am_at_all cd210 v210⟩
theorem mv211 : am_MV am_mt 211 mT211 := ⟨_, pg211, fun _ => ⟨by decide +kernel, q993, q104, ⟨by decide +kernel, by decide +kernel, by decide +kernel⟩, by decide, by decide, by decide, by decide⟩, am_at_all cd211 v211⟩
theorem mv212 : am_MV am_mt 212 mT212 := ⟨_, pg212, fun _ => ⟨by decide +kernel, q513, q112, ⟨by decide +kernel, by decide +kernel, by decide +kernel⟩, by decide, by decide, by decide, by decide⟩, am_at_all cd212 v212⟩
theorem mv213 : am_MV am_mt 213 mT213 := ⟨_, pg213, fun _ => ⟨by decide +kernel, q1283, q112, ⟨by decide +kernel, by decide +kernel, by decide +kernel⟩, by decide, by decide, by decide, by decide⟩, am_at_all cd213 v213⟩
theorem mv214 : am_MV am_mt 214 mT214 := ⟨_, pg214, fun _ => ⟨by decide +kernel, q1286, q113, ⟨by decide +kernel, by decide +kernel, by decide +kernel⟩, by decide, by decide, by decide, by decide⟩, am_at_all cd214 v214⟩
theorem mv215 : am_MV am_mt 215 mT215 := ⟨_, pg215, fun _ => ⟨by decide +kernel, q1351, q125, ⟨by decide +kernel, by decide +kernel, by decide +kernel⟩, by decide, by decide, by decide, by decide⟩, am_at_all cd215 v215⟩
theorem mv216 : am_MV am_mt 216 mT216 := ⟨_, pg216, fun _ => ⟨by decide +kernel, q1356, q125, ⟨by decide +kernel, by decide +kernel, by decide +kernel⟩, by decide, by decide, by decide, by decide⟩, am_at_all cd216 v216⟩
theorem mv217 : am_MV am_mt 217 mT217 := ⟨_, pg217, fun _ => ⟨by decide +kernel, q1386, q112, ⟨by decide +kernel, by decide +kernel, by decide +kernel⟩, by decide, by decide, by decide, by decide⟩, am_at_all cd217 v217⟩
theorem mv218 : am_MV am_mt 218 mT218 := ⟨_, pg218, fun _ => ⟨by decide +kernel, q1452, q127, ⟨by decide +kernel, by decide +kernel, by decide +kernel⟩, by decide, by decide, by decide, by decide⟩, am_at_all cd218 v218⟩
theorem mv219 : am_MV am_mt 219 mT219 := ⟨_, pg219, fun _ => ⟨by decide +kernel, q1490, q101, ⟨by decide +kernel, by decide +kernel, by decide +kernel⟩, by decide, by decide, by decide, by decide⟩, am_at_all cd219 v219⟩
theorem mv220 : am_MV am_mt 220 mT220 := ⟨_, pg220, fun _ => ⟨by decide +kernel, q1653, q94, ⟨by decide +kernel, by decide +kernel, by decide +kernel⟩, by decide, by decide, by decide, by decide⟩, am_at_all cd220 v220⟩
theorem mv221 : am_MV am_mt 221 mT221 := ⟨_, pg221, fun _ => ⟨by decide +kernel, q1904, q94, ⟨by decide +kernel, by decide +kernel, by decide +kernel⟩, by decide, by decide, by decide, by decide⟩, am_at_all cd221 v221⟩
theorem mv222 : am_MV am_mt 222 mT222 := ⟨_, pg222, fun _ => ⟨by decide +kernel, q1912, q94, ⟨by decide +kernel, by decide +kernel, by decide +kernel⟩, by decide, by decide, by decide, by decide⟩, am_at_all cd222 v222⟩
theorem mv223 : am_MV am_mt 223 mT223 := ⟨_, pg223, fun _ => ⟨by decide +kernel, q1935, q94, ⟨by decide +kernel, by decide +kernel, by decide +kernel⟩, by decide, by decide, by decide, by decide⟩, am_at_all cd223 v223⟩
theorem mv224 : am_MV am_mt 224 mT224 := ⟨_, pg224, fun _ => ⟨by decide +kernel, q1940, q94, ⟨by decide +kernel, by decide +kernel, by decide +kernel⟩, by decide, by decide, by decide, by decide⟩, am_at_all cd224 v224⟩
theorem mv225 : am_MV am_mt 225 mT225 := ⟨_, pg225, fun _ => ⟨by decide +kernel, q1944, q94, ⟨by decide +kernel, by decide +kernel, by decide +kernel⟩, by decide, by decide, by decide, by decide⟩, am_at_all cd225 v225⟩
theorem mv226 : am_MV am_mt 226 mT226 := ⟨_, pg226, fun _ => ⟨by decide +kernel, q2072, q136, ⟨by decide +kernel, by decide +kernel, by decide +kernel⟩, by decide, by decide, by decide, by decide⟩, am_at_all cd226 v226⟩
theorem mv227 : am_MV am_mt 227 mT227 := ⟨_, pg227, fun _ => ⟨by decide +kernel, q2033, q137, ⟨by decide +kernel, by decide +kernel, by decide +kernel⟩, by decide, by decide, by decide, by decide⟩, am_at_all cd227 v227⟩
theorem mv228 : am_MV am_mt 228 mT228 := ⟨_, pg228, fun _ => ⟨by decide +kernel, q2093, q138, ⟨by decide +kernel, by decide +kernel, by decide +kernel⟩, by decide, by decide, by decide, by decide⟩, am_at_all cd228 v228⟩
theorem mv229 : am_MV am_mt 229 mT229 := ⟨_, pg229, fun _ => ⟨by decide +kernel, q2064, q139, ⟨by decide +kernel, by decide +kernel, by decide +kernel⟩, by decide, by decide, by decide, by decide⟩, am_at_all cd229 v229⟩
theorem mv230 : am_MV am_mt 230 mT230 := ⟨_, pg230, fun _ => ⟨by decide +kernel, q2068, q140, ⟨by decide +kernel, by decide +kernel, by decide +kernel⟩, by decide, by decide, by decide, by decide⟩, am_at_all cd230 v230⟩
theorem mv231 : am_MV am_mt 231 mT231 := ⟨_, pg231, fun _ => ⟨by decide +kernel, q2029, q141, ⟨by decide +kernel, by decide +kernel, by decide +kernel⟩, by decide, by decide, by decide, by decide⟩, am_at_all cd231 v231⟩
theorem mv232 : am_MV am_mt 232 mT232 := ⟨_, pg232, fun _ => ⟨by decide +kernel, q2108, q142, ⟨by decide +kernel, by decide +kernel, by decide +kernel⟩, by decide, by decide, by decide, by decide⟩, am_at_all cd232 v232⟩
theorem mv233 : am_MV am_mt 233 mT233 := ⟨_, pg233, fun _ => ⟨by decide +kernel, q2075, q143, ⟨by decide +kernel, by decide +kernel, by decide +kernel⟩, by decide, by decide, by decide, by decide⟩, am_at_all cd233 v233⟩
theorem mv234 : am_MV am_mt 234 mT234 := ⟨_, pg234, fun _ => ⟨by decide +kernel, q2060, q135, ⟨by decide +kernel, by decide +kernel, by decide +kernel⟩, by decide, by decide, by decide, by decide⟩, am_at_all cd234 v234⟩
theorem mv235 : am_MV am_mt 235 mT235 := ⟨_, pg235, fun _ => ⟨by decide +kernel, q2157, q136, ⟨by decide +kernel, by decide +kernel, by decide +kernel⟩, by decide, by decide, by decide, by decide⟩, am_at_all cd235 v235⟩
theorem mv236 : am_MV am_mt 236 mT236 := ⟨_, pg236, fun _ => ⟨by decide +kernel, q2135, q137, ⟨by decide +kernel, by decide +kernel, by decide +kernel⟩, by decide, by decide, by decide, by decide⟩, am_at_all cd236 v236⟩
theorem mv237 : am_MV am_mt 237 mT237 := ⟨_, pg237, fun _ => ⟨by decide +kernel, q2163, q138, ⟨by decide +kernel, by decide +kernel, by decide +kernel⟩, by decide, by decide, by decide, by decide⟩, am_at_all cd237 v237⟩
theorem mv238 : am_MV am_mt 238 mT238 := ⟨_, pg238, fun _ => ⟨by decide +kernel, q2141, q139, ⟨by decide +kernel, by decide +kernel, by decide +kernel⟩, by decide, by decide, by decide, by decide⟩, am_at_all cd238 v238⟩
theorem mv239 : am_MV am_mt 239 mT239 := ⟨_, pg239, fun _ => ⟨by decide +kernel, q2144, q140, ⟨by decide +kernel, by decide +kernel, by decide +kernel⟩, by decide, by decide, by decide, by decide⟩, am_at_all cd239 v239⟩
theorem mv240 : am_MV am_mt 240 mT240 := ⟨_, pg240, fun _ => ⟨by decide +kernel, q2132, q141, ⟨by decide +kernel, by decide +kernel, by decide +kernel⟩, by decide, by decide, by decide, by decide⟩, am_at_all cd240 v240⟩
theorem mv241 : am_MV am_mt 241 mT241 := ⟨_, pg241, fun _ => ⟨by decide +kernel, q2166, q142, ⟨by decide +kernel, by decide +kernel, by decide +kernel⟩, by decide, by decide, by decide, by decide⟩, am_at_all cd241 v241⟩
theorem mv242 : am_MV am_mt 242 mT242 := ⟨_, pg242, fun _ => ⟨by decide +kernel, q2160, q143, ⟨by decide +kernel, by decide +kernel, by decide +kernel⟩, by decide, by decide, by decide, by decide⟩, am_at_all cd242 v242⟩
theorem mv243 : am_MV am_mt 243 mT243 := ⟨_, pg243, fun _ => ⟨by decide +kernel, q2138, q135, ⟨by decide +kernel, by decide +kernel, by decide +kernel⟩, by decide, by decide, by decide, by decide⟩, am_at_all cd243 v243⟩
theorem mv244 : am_MV am_mt 244 mT244 := ⟨_, pg244, fun _ => ⟨by decide +kernel, q2794, q123, ⟨by decide +kernel, by decide +kernel, by decide +kernel⟩, by decide, by decide, by decide, by decide⟩, am_at_all cd244 v244⟩
theorem mv245 : am_MV am_mt 245 mT245 := ⟨_, pg245, fun _ => ⟨by decide +kernel, q406, q106, ⟨by decide +kernel, by decide +kernel, by decide +kernel⟩, by decide, by decide, by decide, by decide⟩, am_at_all cd245 v245⟩
theorem mv246 : am_MV am_mt 246 mT246 := ⟨_, pg246, fun _ => ⟨by decide +kernel, q460, q107, ⟨by decide +kernel, by decide +kernel, by decide +kernel⟩, by decide, by decide, by decide, by decide⟩, am_at_all cd246 v246⟩
theorem mv247 : am_MV am_mt 247 mT247 := ⟨_, pg247, fun _ => ⟨by decide +kernel, q1237, q124, ⟨by decide +kernel, by decide +kernel, by decide +kernel⟩, by decide, by decide, by decide, by decide⟩, am_at_all cd247 v247⟩
theorem mv248 : am_MV am_mt 248 mT248 := ⟨_, pg248, fun _ => ⟨by decide +kernel, q1244, q108, ⟨by decide +kernel, by decide +kernel, by decide +kernel⟩, by decide, by decide, by decide, by decide⟩, am_at_all cd248 v248⟩
theorem mv249 : am_MV am_mt 249 mT249 := ⟨_, pg249, fun _ => ⟨by decide +kernel, q518, q113, ⟨by decide +kernel, by decide +kernel, by decide +kernel⟩, by decide, by decide, by decide, by decide⟩, am_at_all cd249 v249⟩
theorem mv250 : am_MV am_mt 250 mT250 := ⟨_, pg250, fun _ => ⟨by decide +kernel, q636, q104, ⟨by decide +kernel, by decide +kernel, by decide +kernel⟩, by decide, by decide, by decide, by decide⟩, am_at_all cd250 v250⟩
theorem mv251 : am_MV am_mt 251 mT251 := ⟨_, pg251, fun _ => ⟨by decide +kernel, q642, q104, ⟨by decide +kernel, by decide +kernel, by decide +kernel⟩, by decide, by decide, by decide, by decide⟩, am_at_all cd251 v251⟩
theorem mv252 : am_MV am_mt 252 mT252 := ⟨_, pg252, fun _ => ⟨by decide +kernel, q2326, q145, ⟨by decide +kernel, by decide +kernel, by decide +kernel⟩, by decide, by decide, by decide, by decide⟩, am_at_all cd252 v252⟩
theorem mv253 : am_MV am_mt 253 mT253 := ⟨_, pg253, fun _ => ⟨by decide +kernel, q2288, q122, ⟨by decide +kernel, by decide +kernel, by decide +kernel⟩, by decide, by decide, by decide, by decide⟩, am_at_all cd253 v253⟩
theorem mv254 : am_MV am_mt 254 mT254 := ⟨_, pg254, fun _ => ⟨by decide +kernel, q2295, q122, ⟨by decide +kernel, by decide +kernel, by decide +kernel⟩, by decide, by decide, by decide, by decide⟩, am_at_all cd254 v254⟩
theorem mv255 : am_MV am_mt 255 mT255 := ⟨_, pg255, fun _ => ⟨by decide +kernel, q2340, q122, ⟨by decide +kernel, by decide +kernel, by decide +kernel⟩, by decide, by decide, by decide, by decide⟩, am_at_all cd255 v255⟩
theorem mv256 : am_MV am_mt 256 mT256 := ⟨_, pg256, fun _ => ⟨by decide +kernel, q2344, q145, ⟨by decide +kernel, by decide +kernel, by decide +kernel⟩, by decide, by decide, by decide, by decide⟩, am_at_all cd256 v256⟩
theorem mv257 : am_MV am_mt 257 mT257 := ⟨_, pg257, fun _ => ⟨by decide +kernel, q403, q101, ⟨by decide +kernel, by decide +kernel, by decide +kernel⟩, by decide, by decide, by decide, by decide⟩, am_at_all cd257 v257⟩
theorem mv258 : am_MV am_mt 258 mT258 := ⟨_, pg258, fun _ => ⟨by decide +kernel, q887, q119, ⟨by decide +kernel, by decide +kernel, by decide +kernel⟩, by decide, by decide, by decide, by decide⟩, am_at_all cd258 v258⟩
theorem mv259 : am_MV am_mt 259 mT259 := ⟨_, pg259, fun _ => ⟨by decide +kernel, q943, q104, ⟨by decide +kernel, by decide +kernel, by decide +kernel⟩, by decide, by decide, by decide, by decide⟩, am_at_all cd259 v259⟩
theorem mv260 : am_MV am_mt 260 mT260 := ⟨_, pg260, fun _ => ⟨by decide +kernel, q920, q121, ⟨by decide +kernel, by decide +kernel, by decide +kernel⟩, by decide, by decide, by decide, by decide⟩, am_at_all cd260 v260⟩
theorem mv261 : am_MV am_mt 261 mT261 := ⟨_, pg261, fun _ => ⟨by decide +kernel, q929, q121, ⟨by decide +kernel, by decide +kernel, by decide +kernel⟩, by decide, by decide, by decide, by decide⟩, am_at_all cd261 v261⟩
theorem mv262 : am_MV am_mt 262 mT262 := ⟨_, pg262, fun _ => ⟨by decide +kernel, q984, q104, ⟨by decide +kernel, by decide +kernel, by decide +kernel⟩, by decide, by decide, by decide, by decide⟩, am_at_all cd262 v262⟩
theorem mv263 : am_MV am_mt 263 mT263 := ⟨_, pg263, fun _ => ⟨by decide +kernel, q917, q121, ⟨by decide +kernel, by decide +kernel, by decide +kernel⟩, by decide, by decide, by decide, by decide⟩, am_at_all cd263 v263⟩
theorem mv264 : am_MV am_mt 264 mT264 := ⟨_, pg264, fun _ => ⟨by decide +kernel, q673, q112, ⟨by decide +kernel, by decide +kernel, by decide +kernel⟩, by decide, by decide, by decide, by decide⟩, am_at_all cd264 v264⟩
theorem mv265 : am_MV am_mt 265 mT265 := ⟨_, pg265, fun _ => ⟨by decide +kernel, q1289, q113, ⟨by decide +kernel, by decide +kernel, by decide +kernel⟩, by decide, by decide, by decide, by decide⟩, am_at_all cd265 v265⟩
theorem mv266 : am_MV am_mt 266 mT266 := ⟨_, pg266, fun _ => ⟨by decide +kernel, q409, q107, ⟨by decide +kernel, by decide +kernel, by decide +kernel⟩, by decide, by decide, by decide, by decide⟩, am_at_all cd266 v266⟩
theorem mv267 : am_MV am_mt 267 mT267 := ⟨_, pg267, fun _ => ⟨by decide +kernel, q1293, q113, ⟨by decide +kernel, by decide +kernel, by decide +kernel⟩, by decide, by decide, by decide, by decide⟩, am_at_all cd267 v267⟩
theorem mv268 : am_MV am_mt 268 mT268 := ⟨_, pg268, fun _ => ⟨by decide +kernel, q1359, q124, ⟨by decide +kernel, by decide +kernel, by decide +kernel⟩, by decide, by decide, by decide, by decide⟩, am_at_all cd268 v268⟩
theorem mv269 : am_MV am_mt 269 mT269 := ⟨_, pg269, fun _ => ⟨by decide +kernel, q1396, q112, ⟨by decide +kernel, by decide +kernel, by decide +kernel⟩, by decide, by decide, by decide, by decide⟩, am_at_all cd269 v269⟩
theorem mv270 : am_MV am_mt 270 mT270 := ⟨_, pg270, fun _ => ⟨by decide +kernel, q1404, q112, ⟨by decide +kernel, by decide +kernel, by decide +kernel⟩, by decide, by decide, by decide, by decide⟩, am_at_all cd270 v270⟩
theorem mv271 : am_MV am_mt 271 mT271 := ⟨_, pg271, fun _ => ⟨by decide +kernel, q1658, q135, ⟨by decide +kernel, by decide +kernel, by decide +kernel⟩, by decide, by decide, by decide, by decide⟩, am_at_all cd271 v271⟩
theorem mv272 : am_MV am_mt 272 mT272 := ⟨_, pg272, fun _ => ⟨by decide +kernel, q1709, q136, ⟨by decide +kernel, by decide +kernel, by decide +kernel⟩, by decide, by decide, by decide, by decide⟩, am_at_all cd272 v272⟩
theorem mv273 : am_MV am_mt 273 mT273 := ⟨_, pg273, fun _ => ⟨by decide +kernel, q1729, q137, ⟨by decide +kernel, by decide +kernel, by decide +kernel⟩, by decide, by decide, by decide, by decide⟩, am_at_all cd273 v273⟩
theorem mv274 : am_MV am_mt 274 mT274 := ⟨_, pg274, fun _ => ⟨by decide +kernel, q1752, q138, ⟨by decide +kernel, by decide +kernel, by decide +kernel⟩, by decide, by decide, by decide, by decide⟩, am_at_all cd274 v274⟩
theorem mv275 : am_MV am_mt 275 mT275 := ⟨_, pg275, fun _ => ⟨by decide +kernel, q1772, q139, ⟨by decide +kernel, by decide +kernel, by decide +kernel⟩, by decide, by decide, by decide, by decide⟩, am_at_all cd275 v275⟩
theorem mv276 : am_MV am_mt 276 mT276 := ⟨_, pg276, fun _ => ⟨by decide +kernel, q1792, q140, ⟨by decide +kernel, by decide +kernel, by decide +kernel⟩, by decide, by decide, by decide, by decide⟩, am_at_all cd276 v276⟩
theorem mv277 : am_MV am_mt 277 mT277 := ⟨_, pg277, fun _ => ⟨by decide +kernel, q1817, q141, ⟨by decide +kernel, by decide +kernel, by decide +kernel⟩, by decide, by decide, by decide, by decide⟩, am_at_all cd277 v277⟩
theorem mv278 : am_MV am_mt 278 mT278 := ⟨_, pg278, fun _ => ⟨by decide +kernel, q1839, q142, ⟨by decide +kernel, by decide +kernel, by decide +kernel⟩, by decide, by decide, by decide, by decide⟩, am_at_all cd278 v278⟩
theorem mv279 : am_MV am_mt 279 mT279 := ⟨_, pg279, fun _ => ⟨by decide +kernel, q1883, q143, ⟨by decide +kernel, by decide +kernel, by decide +kernel⟩, by decide, by decide, by decide, by decide⟩, am_at_all cd279 v279⟩
theorem mv280 : am_MV am_mt 280 mT280 := ⟨_, pg280, fun _ => ⟨by decide +kernel, q1908, q94, ⟨by decide +kernel, by decide +kernel, by decide +kernel⟩, by decide, by decide, by decide, by decide⟩, am_at_all cd280 v280⟩
theorem mv281 : am_MV am_mt 281 mT281 := ⟨_, pg281, fun _ => ⟨by decide +kernel, q1915, q111, ⟨by decide +kernel, by decide +kernel, by decide +kernel⟩, by decide, by decide, by decide, by decide⟩, am_at_all cd281 v281⟩
theorem mv282 : am_MV am_mt 282 mT282 := ⟨_, pg282, fun _ => ⟨by decide +kernel, q1948, q101, ⟨by decide +kernel, by decide +kernel, by decide +kernel⟩, by decide, by decide, by decide, by decide⟩, am_at_all cd282 v282⟩
theorem mv283 : am_MV am_mt 283 mT283 := ⟨_, pg283, fun _ => ⟨by decide +kernel, q1954, q94, ⟨by decide +kernel, by decide +kernel, by decide +kernel⟩, by decide, by decide, by decide, by decide⟩, am_at_all cd283 v283⟩
theorem mv284 : am_MV am_mt 284 mT284 := ⟨_, pg284, fun _ => ⟨by decide +kernel, q2044, q102, ⟨by decide +kernel, by decide +kernel, by decide +kernel⟩, by decide, by decide, by decide, by decide⟩, am_at_all cd284 v284⟩
theorem mv285 : am_MV am_mt 285 mT285 := ⟨_, pg285, fun _ => ⟨by decide +kernel, q2097, q145, ⟨by decide +kernel, by decide +kernel, by decide +kernel⟩, by decide, by decide, by decide, by decide⟩, am_at_all cd285 v285⟩
theorem mv286 : am_MV am_mt 286 mT286 := ⟨_, pg286, fun _ => ⟨by decide +kernel, q2118, q142, ⟨by decide +kernel, by decide +kernel, by decide +kernel⟩, by decide, by decide, by decide, by decide⟩, am_at_all cd286 v286⟩
theorem mv287 : am_MV am_mt 287 mT287 := ⟨_, pg287, fun _ => ⟨by decide +kernel, q2151, q141, ⟨by decide +kernel, by decide +kernel, by decide +kernel⟩, by decide, by decide, by decide, by decide⟩, am_at_all cd287 v287⟩
theorem mv288 : am_MV am_mt 288 mT288 := ⟨_, pg288, fun _ => ⟨by decide +kernel, q1247, q108, ⟨by decide +kernel, by decide +kernel, by decide +kernel⟩, by decide, by decide, by decide, by decide⟩, am_at_all cd288 v288⟩
theorem mv289 : am_MV am_mt 289 mT289 := ⟨_, pg289, fun _ => ⟨by decide +kernel, q521, q106, ⟨by decide +kernel, by decide +kernel, by decide +kernel⟩, by decide, by decide, by decide, by decide⟩, am_at_all cd289 v289⟩
theorem mv290 : am_MV am_mt 290 mT290 := ⟨_, pg290, fun _ => ⟨by decide +kernel, q665, q112, ⟨by decide +kernel, by decide +kernel, by decide +kernel⟩, by decide, by decide, by decide, by decide⟩, am_at_all cd290 v290⟩
theorem mv291 : am_MV am_mt 291 mT291 := ⟨_, pg291, fun _ => ⟨by decide +kernel, q2299, q122, ⟨by decide +kernel, by decide +kernel, by decide +kernel⟩, by decide, by decide, by decide, by decide⟩, am_at_all cd291 v291⟩
theorem mv292 : am_MV am_mt 292 mT292 := ⟨_, pg292, fun _ => ⟨by decide +kernel, q416, q108, ⟨by decide +kernel, by decide +kernel, by decide +kernel⟩, by decide, by decide, by decide, by decide⟩, am_at_all cd292 v292⟩
theorem mv293 : am_MV am_mt 293 mT293 := ⟨_, pg293, fun _ => ⟨by decide +kernel, q947, q121, ⟨by decide +kernel, by decide +kernel, by decide +kernel⟩, by decide, by decide, by decide, by decide⟩, am_at_all cd293 v293⟩
theorem mv294 : am_MV am_mt 294 mT294 := ⟨_, pg294, fun _ => ⟨by decide +kernel, q923, q121, ⟨by decide +kernel, by decide +kernel, by decide +kernel⟩, by decide, by decide, by decide, by decide⟩, am_at_all cd294 v294⟩
theorem mv295 : am_MV am_mt 295 mT295 := ⟨_, pg295, fun _ => ⟨by decide +kernel, q926, q121, ⟨by decide +kernel, by decide +kernel, by decide +kernel⟩, by decide, by decide, by decide, by decide⟩, am_at_all cd295 v295⟩
theorem mv296 : am_MV am_mt 296 mT296 := ⟨_, pg296, fun _ => ⟨by decide +kernel, q1371, q124, ⟨by decide +kernel, by decide +kernel, by decide +kernel⟩, by decide, by decide, by decide, by decide⟩, am_at_all cd296 v296⟩
theorem mv297 : am_MV am_mt 297 mT297 := ⟨_, pg297, fun _ => ⟨by decide +kernel, q1407, q113, ⟨by decide +kernel, by decide +kernel, by decide +kernel⟩, by decide, by decide, by decide, by decide⟩, am_at_all cd297 v297⟩
theorem mv298 : am_MV am_mt 298 mT298 := ⟨_, pg298, fun _ => ⟨by decide +kernel, q1661, q134, ⟨by decide +kernel, by decide +kernel, by decide +kernel⟩, by decide, by decide, by decide, by decide⟩, am_at_all cd298 v298⟩
theorem mv299 : am_MV am_mt 299 mT299 := ⟨_, pg299, fun _ => ⟨by decide +kernel, q1923, q111, ⟨by decide +kernel, by decide +kernel, by decide +kernel⟩, by decide, by decide, by decide, by decide⟩, am_at_all cd299 v299⟩
theorem mv300 : am_MV am_mt 300 mT300 := ⟨_, pg300, fun _ => ⟨by decide +kernel, q1959, q145, ⟨by decide +kernel, by decide +kernel, by decide +kernel⟩, by decide, by decide, by decide, by decide⟩, am_at_all cd300 v300⟩
theorem mv301 : am_MV am_mt 301 mT301 := ⟨_, pg301, fun _ => ⟨by decide +kernel, q763, q111, ⟨by decide +kernel, by decide +kernel, by decide +kernel⟩, by decide, by decide, by decide, by decide⟩, am_at_all cd301 v301⟩
theorem mv302 : am_MV am_mt 302 mT302 := ⟨_, pg302, fun _ => ⟨by decide +kernel, q525, q106, ⟨by decide +kernel, by decide +kernel, by decide +kernel⟩, by decide, by decide, by decide, by decide⟩, am_at_all cd302 v302⟩
theorem mv303 : am_MV am_mt 303 mT303 := ⟨_, pg303, fun _ => ⟨by decide +kernel, q669, q112, ⟨by decide +kernel, by decide +kernel, by decide +kernel⟩, by decide, by decide, by decide, by decide⟩, am_at_all cd303 v303⟩
theorem mv304 : am_MV am_mt 304 mT304 := ⟨_, pg304, fun _ => ⟨by decide +kernel, q454, q108, ⟨by decide +kernel, by decide +kernel, by decide +kernel⟩, by decide, by decide, by decide, by decide⟩, am_at_all cd304 v304⟩
theorem mv305 : am_MV am_mt 305 mT305 := ⟨_, pg305, fun _ => ⟨by decide +kernel, q950, q120, ⟨by decide +kernel, by decide +kernel, by decide +kernel⟩, by decide, by decide, by decide, by decide⟩, am_at_all cd305 v305⟩
theorem mv306 : am_MV am_mt 306 mT306 := ⟨_, pg306, fun _ => ⟨by decide +kernel, q1375, q124, ⟨by decide +kernel, by decide +kernel, by decide +kernel⟩, by decide, by decide, by decide, by decide⟩, am_at_all cd306 v306⟩
theorem mv307 : am_MV am_mt 307 mT307 := ⟨_, pg307, fun _ => ⟨by decide +kernel, q1380, q112, ⟨by decide +kernel, by decide +kernel, by decide +kernel⟩, by decide, by decide, by decide, by decide⟩, am_at_all cd307 v307⟩
theorem mv308 : am_MV am_mt 308 mT308 := ⟨_, pg308, fun _ => ⟨by decide +kernel, q1410, q113, ⟨by decide +kernel, by decide +kernel, by decide +kernel⟩, by decide, by decide, by decide, by decide⟩, am_at_all cd308 v308⟩
theorem mv309 : am_MV am_mt 309 mT309 := ⟨_, pg309, fun _ => ⟨by decide +kernel, q1926, q110, ⟨by decide +kernel, by decide +kernel, by decide +kernel⟩, by decide, by decide, by decide, by decide⟩, am_at_all cd309 v309⟩
theorem mv310 : am_MV am_mt 310 mT310 := ⟨_, pg310, fun _ => ⟨by decide +kernel, q676, q113, ⟨by decide +kernel, by decide +kernel, by decide +kernel⟩, by decide, by decide, by decide, by decide⟩, am_at_all cd310 v310⟩
theorem mv311 : am_MV am_mt 311 mT311 := ⟨_, pg311, fun _ => ⟨by decide +kernel, q679, q113, ⟨by decide +kernel, by decide +kernel, by decide +kernel⟩, by decide, by decide, by decide, by decide⟩, am_at_all cd311 v311⟩
theorem mv312 : am_MV am_mt 312 mT312 := ⟨_, pg312, fun _ => ⟨by decide +kernel, q683, q106, ⟨by decide +kernel, by decide +kernel, by decide +kernel⟩, by decide, by decide, by decide, by decide⟩, am_at_all cd312 v312⟩
theorem mv313 : am_MV am_mt 313 mT313 := ⟨_, pg313, fun _ => ⟨by decide +kernel, q787, q113, ⟨by decide +kernel, by decide +kernel, by decide +kernel⟩, by decide, by decide, by decide, by decide⟩, am_at_all cd313 v313⟩
theorem mv314 : am_MV am_mt 314 mT314 := ⟨_, pg314, fun _ => ⟨by decide +kernel, q690, q106, ⟨by decide +kernel, by decide +kernel, by decide +kernel⟩, by decide, by decide, by decide, by decide⟩, am_at_all cd314 v314⟩
theorem mv315 : am_MV am_mt 315 mT315 := ⟨_, pg315, fun _ => ⟨by decide +kernel, q698, q115, ⟨by decide +kernel, by decide +kernel, by decide +kernel⟩, by decide, by decide, by decide, by decide⟩, am_at_all cd315 v315⟩
theorem mv316 : am_MV am_mt 316 mT316 := ⟨_, pg316, fun _ => ⟨by decide +kernel, q760, q117, ⟨by decide +kernel, by decide +kernel, by decide +kernel⟩, by decide, by decide, by decide, by decide⟩, am_at_all cd316 v316⟩
theorem mv317 : am_MV am_mt 317 mT317 := ⟨_, pg317, fun _ => ⟨by decide +kernel, q754, q111, ⟨by decide +kernel, by decide +kernel, by decide +kernel⟩, by decide, by decide, by decide, by decide⟩, am_at_all cd317 v317⟩
theorem hv0 : ∀ (k : Nat) (T : am_T), am_mt0[k]? = some T → am_MV am_mt (0 + k) T := am_lst am_mt0 0 ⟨mv0, mv1, mv2, mv3, mv4, mv5, mv6, mv7, mv8, mv9, mv10, mv11, mv12, mv13, mv14, mv15, mv16, mv17, mv18, mv19, mv20, mv21, mv22, mv23, mv24, mv25, mv26, mv27, mv28, mv29, mv30, mv31, mv32, mv33, mv34, mv35, mv36, mv37, mv38, mv39, trivial⟩
theorem hv1 : ∀ (k : Nat) (T : am_T), am_mt1[k]? = some T → am_MV am_mt (40 + k) T := am_lst am_mt1 40 ⟨mv40, mv41, mv42, mv43, mv44, mv45, mv46, mv47, mv48, mv49, mv50, mv51, mv52, mv53, mv54, mv55, mv56, mv57, mv58, mv59, mv60, mv61, mv62, mv63, mv64, mv65, mv66, mv67, mv68, mv69, mv70, mv71, mv72, mv73, mv74, mv75, mv76, mv77, mv78, mv79, trivial⟩
theorem hv2 : ∀ (k : Nat) (T : am_T), am_mt2[k]? = some T → am_MV am_mt (80 + k) T := am_lst am_mt2 80 ⟨mv80, mv81, mv82, mv83, mv84, mv85, mv86, mv87, mv88, mv89, mv90, mv91, mv92, mv93, mv94, mv95, mv96, mv97, mv98, mv99, mv100, mv101, mv102, mv103, mv104, mv105, mv106, mv107, mv108, mv109, mv110, mv111, mv112, mv113, mv114, mv115, mv116, mv117, mv118, mv119, trivial⟩
theorem hv3 : ∀ (k : Nat) (T : am_T), am_mt3[k]? = some T → am_MV am_mt (120 + k) T := am_lst am_mt3 120 ⟨mv120, mv121, mv122, mv123, mv124, mv125, mv126, mv127, mv128, mv129, mv130, mv131, mv132, mv133, mv134, mv135, mv136, mv137, mv138, mv139, mv140, mv141, mv142, mv143, mv144, mv145, mv146, mv147, mv148, mv149, mv150, mv151, mv152, mv153, mv154, mv155, mv156, mv157, mv158, mv159, trivial⟩
theorem hv4 : ∀ (k : Nat) (T : am_T), am_mt4[k]? = some T → am_MV am_mt (160 + k) T := am_lst am_mt4 160 ⟨mv160, mv161, mv162, mv163, mv164, mv165, mv166, mv167, mv168, mv169, mv170, mv171, mv172, mv173, mv174, mv175, mv176, mv177, mv178, mv179, mv180, mv181, mv182, mv183, mv184, mv185, mv186, mv187, mv188, mv189, mv190, mv191, mv192, mv193, mv194, mv195, mv196, mv197, mv198, mv199, trivial⟩
theorem hv5 : ∀ (k : Nat) (T : am_T), am_mt5[k]? = some T → am_MV am_mt (200 + k) T := am_lst am_mt5 200 ⟨mv200, mv201, mv202, mv203, mv204, mv205, mv206, mv207, mv208, mv209, mv210, mv211, mv212, mv213, mv214, mv215, mv216, mv217, mv218, mv219, mv220, mv221, mv222, mv223, mv224, mv225, mv226, mv227, mv228, mv229, mv230, mv231, mv232, mv233, mv234, mv235, mv236, mv237, mv238, mv239, trivial⟩
theorem hv6 : ∀ (k : Nat) (T : am_T), am_mt6[k]? = some T → am_MV am_mt (240 + k) T := am_lst am_mt6 240 ⟨mv240, mv241, mv242, mv243, mv244, mv245, mv246, mv247, mv248, mv249, mv250, mv251, mv252, mv253, mv254, mv255, mv256, mv257, mv258, mv259, mv260, mv261, mv262, mv263, mv264, mv265, mv266, mv267, mv268, mv269, mv270, mv271, mv272, mv273, mv274, mv275, mv276, mv277, mv278, mv279, trivial⟩
theorem hv7 : ∀ (k : Nat) (T : am_T), am_mt7[k]? = some T → am_MV am_mt (280 + k) T := am_lst am_mt7 280 ⟨mv280, mv281, mv282, mv283, mv284, mv285, mv286, mv287, mv288, mv289, mv290, mv291, mv292, mv293, mv294, mv295, mv296, mv297, mv298, mv299, mv300, mv301, mv302, mv303, mv304, mv305, mv306, mv307, mv308, mv309, mv310, mv311, mv312, mv313, mv314, mv315, mv316, mv317, trivial⟩
theorem am_HV : ∀ (i : Nat) (T : am_T), am_mt i = some T → am_MV am_mt i T := by
  intro i T h
  have hi := Nat.div_add_mod i 40
  unfold am_mt at h
  split at h
  · rename_i hj
    have := hv0 _ _ h
    rw [show 0 + i % 40 = i by omega] at this
    exact this
  · rename_i hj
    have := hv1 _ _ h
    rw [show 40 + i % 40 = i by omega] at this
    exact this
  · rename_i hj
    have := hv2 _ _ h
    rw [show 80 + i % 40 = i by omega] at this
    exact this
  · rename_i hj
    have := hv3 _ _ h
    rw [show 120 + i % 40 = i by omega] at this
    exact this
  · rename_i hj
    have := hv4 _ _ h
    rw [show 160 + i % 40 = i by omega] at this
    exact this
  · rename_i hj
    have := hv5 _ _ h
    rw [show 200 + i % 40 = i by omega] at this
    exact this
  · rename_i hj
    have := hv6 _ _ h
    rw [show 240 + i % 40 = i by omega] at this
    exact this
  · rename_i hj
    have := hv7 _ _ h
    rw [show 280 + i % 40 = i by omega] at this
    exact this
  · cases h
