/-! THE SIMULATION, part T: rows of a method's sites, for the printing program gen_valid.py -/
def am_SV (mt : Nat → Option am_T) (T : am_T) (nL : Nat) (pc : Nat) (ai : am_I) : Prop := decode T.2.1 pc = .ok (ai.1, ai.2.1) ∧ am_HC T.1.cls T.2.2.2.1 pc ai ∧ ∃ ini : Bool, (ini = true → T.1.name = "<init>") ∧ am_ST mt T.1.cls ini nL T.2.2.2.2.2.1 T.2.2.1 pc ai
theorem am_hcN {T : am_T} {pc : Nat} {ai : am_I} (hh : T.2.2.2.1 = []) (h : am_isInv ai.1 = false ∨ am_hdl ai = none) : am_HC T.1.cls T.2.2.2.1 pc ai := by rw [hh]; exact am_hc0 h
theorem am_hcA {own : String} {hh : List (Nat × Nat × Nat × Nat)} {pc : Nat} {ai : am_I} (h : am_isInv ai.1 = false) (h2 : ai.1 ≠ .athrow) : am_HC own hh pc ai := ⟨fun _ _ z => (by rw [h] at z; cases z), fun z => absurd z h2, fun _ z => (by rw [h] at z; cases z)⟩
section SIMT
variable {mt : Nat → Option am_T} {T : am_T} {nL pc len idx : Nat} {ins : Instr} {o : List Nat} {t : List (Nat × Nat)}
theorem sv_p (d : decode T.2.1 pc = .ok (ins, len)) (hc : am_HC T.1.cls T.2.2.2.1 pc (ins, (len, (o, t)))) (h : am_chk nL T.2.2.2.2.2.1 T.2.2.1 pc (ins, (len, (o, t))) = true) : am_SV mt T nL pc (ins, (len, (o, t))) := ⟨d, hc, false, fun z => (by cases z), am_chk_ok h⟩
theorem sv_x {ini : Bool} (hin : ini = true → T.1.name = "<init>") (d : decode T.2.1 pc = .ok (ins, len)) (hc : am_HC T.1.cls T.2.2.2.1 pc (ins, (len, (o, t)))) (hi : am_isInv ins = false) (V : am_VI T.1.cls ini nL T.2.2.2.2.2.1 T.2.2.1 pc (ins, (len, (o, t)))) : am_SV mt T nL pc (ins, (len, (o, t))) := ⟨d, hc, ini, hin, Or.inl ⟨hi, V⟩⟩
theorem sv_getf {lo hi k tc : Nat} (d : decode T.2.1 pc = .ok (.getfield idx, 3)) (hc : am_HC T.1.cls T.2.2.2.1 pc (.getfield idx, (3, ([lo, hi, k, tc], t)))) (V : am_VF T.1.cls idx lo hi k (fun ty => (tc = 0 ∧ (am_tc ty = 0 ∨ am_tc ty = 4 ∨ am_tc ty = 5 ∨ am_tc ty = 6)) ∨ (tc = 1 ∧ am_tc ty = 1) ∨ (tc = 2 ∧ am_tc ty = 2)) (fun _ => True)) : am_SV mt T nL pc (.getfield idx, (3, ([lo, hi, k, tc], t))) :=
  sv_x (ini := false) (fun z => (by cases z)) d hc rfl ⟨trivial, fun k hk => (by first | (cases hk; done) | (cases hk; rfl)), rfl, Or.inr ⟨lo, hi, k, tc, rfl, V⟩⟩
theorem sv_putf {lo hi k tc : Nat} {ini : Bool} (hin : ini = true → T.1.name = "<init>") (d : decode T.2.1 pc = .ok (.putfield idx, 3)) (hc : am_HC T.1.cls T.2.2.2.1 pc (.putfield idx, (3, ([lo, hi, k, tc], t)))) (V : am_VF T.1.cls idx lo hi k (fun ty => am_tc ty = tc) (fun q => (q.2.1 k).2.2.2 = false ∨ ((q.2.1 k).2.2.2 = true ∧ (q.2.1 k).1 = T.1.cls ∧ ini = true)) ∧ ∀ x, lo ≤ x → x ≤ hi → am_ro x = false) : am_SV mt T nL pc (.putfield idx, (3, ([lo, hi, k, tc], t))) :=
  sv_x hin d hc rfl ⟨trivial, fun k hk => (by first | (cases hk; done) | (cases hk; rfl)), rfl, Or.inr ⟨lo, hi, k, tc, rfl, V⟩⟩
theorem sv_nat {n : Nat} (d : decode T.2.1 pc = .ok (ins, 3)) (hi : am_isInv ins = true) (hh : T.2.2.2.1 = []) (V : am_VT T.1.cls ins t n) : am_SV mt T nL pc (ins, (3, ([n], t))) := ⟨d, am_hcN hh (Or.inr rfl), false, fun z => (by cases z), Or.inr ⟨hi, Or.inr (Or.inl ⟨rfl, n, rfl, V⟩)⟩⟩
theorem sv_none (d : decode T.2.1 pc = .ok (ins, len)) (hi : am_isInv ins = true) (hh : T.2.2.2.1 = []) : am_SV mt T nL pc (ins, (len, ([], t))) := ⟨d, am_hcN hh (Or.inr rfl), false, fun z => (by cases z), Or.inr ⟨hi, Or.inl rfl⟩⟩
theorem sv_call {a b : Nat} {sg : List Nat} (d : decode T.2.1 pc = .ok (ins, len)) (hi : am_isInv ins = true) (hc : am_HC T.1.cls T.2.2.2.1 pc (ins, (len, (a :: b :: sg, t)))) (V : ∀ q ∈ t, ∃ T', mt q.2 = some T' ∧ q.2 ≠ 0 ∧ T'.2.2.2.2.1 = sg.reverse ∧ am_VQ T.1.cls ins len q.1 T') : am_SV mt T nL pc (ins, (len, (a :: b :: sg, t))) := ⟨d, hc, false, fun z => (by cases z), Or.inr ⟨hi, Or.inr (Or.inr ⟨a, b, sg, rfl, V⟩)⟩⟩
end SIMT
/-- a range of kinds, one by one -/
theorem am_rngA {P : Nat → Prop} : ∀ (l : List Nat) (lo hi : Nat), l = List.range' lo (hi + 1 - lo) → (∀ x ∈ l, P x) → ∀ c, lo ≤ c → c ≤ hi → P c := by
  intro l lo hi hl hP c h1 h2
  exact hP c (by rw [hl]; exact List.mem_range'_1.mpr ⟨h1, by omega⟩)
/-- switches -/
def am_tok (pc : Int) : Int → List Int → List (Nat × Nat) → Bool
  | _, [], [] => true
  | lo, off :: offs, (k, g) :: t => decide ((Int32.ofNat k).toInt = lo) && decide (pc + off = (g : Int)) && am_tok pc (lo + 1) offs t
  | _, _, _ => false
theorem am_tok_out {pc : Int} {d : Nat} {x : Int32} : ∀ (offs : List Int) (t : List (Nat × Nat)) (lo : Int), am_tok pc lo offs t = true → (x.toInt < lo ∨ lo + offs.length ≤ x.toInt) → am_sw x t d = d
  | [], [], lo, _, _ => rfl
  | [], _ :: _, lo, h, _ => by cases h
  | _ :: _, [], lo, h, _ => by cases h
  | off :: offs, (k, g) :: t, lo, h, hx => by
    simp only [am_tok, Bool.and_eq_true, decide_eq_true_eq] at h
    obtain ⟨⟨h1, h2⟩, h3⟩ := h
    simp only [List.length_cons] at hx
    unfold am_sw
    rw [if_neg (by intro z; rw [z, h1] at hx; omega)]
    exact am_tok_out offs t (lo + 1) h3 (by omega)
theorem am_tok_in {pc : Int} {d : Nat} {x : Int32} : ∀ (offs : List Int) (t : List (Nat × Nat)) (lo : Int), am_tok pc lo offs t = true → lo ≤ x.toInt → x.toInt < lo + offs.length → ∃ off, offs[(x.toInt - lo).toNat]? = some off ∧ pc + off = (am_sw x t d : Nat)
  | [], [], lo, _, h1, h2 => by simp only [List.length_nil] at h2; omega
  | [], _ :: _, lo, h, _, _ => by cases h
  | _ :: _, [], lo, h, _, _ => by cases h
  | off :: offs, (k, g) :: t, lo, h, hx1, hx2 => by
    simp only [am_tok, Bool.and_eq_true, decide_eq_true_eq] at h
    obtain ⟨⟨h1, h2⟩, h3⟩ := h
    simp only [List.length_cons] at hx2
    unfold am_sw
    by_cases hz : x.toInt = lo
    · have hx : x = Int32.ofNat k := Int32.toInt_inj.mp (by rw [h1, hz])
      rw [if_pos hx]
      refine ⟨off, ?_, h2⟩
      rw [hz, Int.sub_self]
      rfl
    · rw [if_neg (by intro z; exact hz (by rw [z, h1]))]
      obtain ⟨off', e1, e2⟩ := am_tok_in (d := d) (x := x) offs t (lo + 1) h3 (by omega) (by omega)
      refine ⟨off', ?_, e2⟩
      have e3 : (x.toInt - lo).toNat = (x.toInt - (lo + 1)).toNat + 1 := by omega
      rw [e3, List.getElem?_cons_succ]
      exact e1
theorem am_tsw {nL pc len d : Nat} {LS : List Nat} {t : List (Nat × Nat)} {dflt lo hi : Int} {offs : Array Int} (h : am_tok pc lo offs.toList t = true) (hh : hi + 1 = lo + offs.toList.length) (hd : (pc : Int) + dflt = (d : Int)) : am_ok0 nL LS pc (.tableswitch dflt lo hi offs, (len, ([d], t))) := by
  intro d' hd'
  cases List.mem_singleton.mp hd'
  refine ⟨fun x hx => ?_, fun x h1 h2 => ?_⟩
  · rw [am_tok_out offs.toList t lo h (by omega)]
    exact hd
  · obtain ⟨off, e1, e2⟩ := am_tok_in (d := d) (x := x) offs.toList t lo h (by omega) (by omega)
    exact ⟨off, by rw [Array.getElem?_toList] at e1; exact e1, e2⟩
def am_lok (pc : Int) : List (Int × Int) → List (Nat × Nat) → Bool
  | [], [] => true
  | (a, off) :: ps, (k, g) :: t => decide ((Int32.ofNat k).toInt = a) && decide (pc + off = (g : Int)) && am_lok pc ps t
  | _, _ => false
theorem am_lok_ok {pc : Int} {d : Nat} {dflt : Int} {x : Int32} (hd : pc + dflt = (d : Int)) : ∀ (ps : List (Int × Int)) (t : List (Nat × Nat)), am_lok pc ps t = true → pc + Op.lookupswitch.offset ps dflt x.toInt = (am_sw x t d : Nat)
  | [], [], _ => hd
  | [], _ :: _, h => by cases h
  | _ :: _, [], h => by cases h
  | (a, off) :: ps, (k, g) :: t, h => by
    simp only [am_lok, Bool.and_eq_true, decide_eq_true_eq] at h
    obtain ⟨⟨h1, h2⟩, h3⟩ := h
    rw [Op.lookupswitch.offset_cons]
    unfold am_sw
    by_cases hz : a = x.toInt
    · rw [if_pos hz, if_pos (Int32.toInt_inj.mp (by rw [h1, hz]))]
      exact h2
    · rw [if_neg hz, if_neg (by intro z; exact hz (by rw [z, h1]))]
      exact am_lok_ok hd ps t h3
theorem am_lsw {nL pc len d : Nat} {LS : List Nat} {t : List (Nat × Nat)} {dflt : Int} {ps : Array (Int × Int)} (h0 : (ps.toList.zip (ps.toList.drop 1)).all (fun (a, next) => a.1 < next.1) = true) (h : am_lok pc ps.toList t = true) (hd : (pc : Int) + dflt = (d : Int)) : am_ok0 nL LS pc (.lookupswitch dflt ps, (len, ([d], t))) := by
  refine ⟨h0, fun d' hd' x => ?_⟩
  cases List.mem_singleton.mp hd'
  exact am_lok_ok hd ps.toList t h
