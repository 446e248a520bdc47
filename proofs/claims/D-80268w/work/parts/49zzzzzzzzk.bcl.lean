/-! PURE: what a block can throw, by its statements *-/
section BCL
variable {w b s : Int} {S U : tSt} {c c' l : Int → Int}
theorem tCh_l : ∀ (L : List Int) (d : Nat) (s a : Int), isCh U s L → (∀ t, t ∈ L → t ≠ -1) → L.length < d → tCh U c d s a = L.foldl (fun a t => sOr a (c t)) a := by
  intro L
  induction L with
  | nil =>
    intro d s a h _ hd
    cases d with
    | zero => simp at hd
    | succ d =>
      have e : s = -1 := h
      rw [tCh, if_pos e]
      rfl
  | cons t L ih =>
    intro d s a h hn hd
    cases d with
    | zero => simp at hd
    | succ d =>
      obtain ⟨e, h2⟩ := h
      rw [tCh, e, if_neg (hn t List.mem_cons_self), ih d _ _ h2 (fun q hq => hn q (List.mem_cons_of_mem _ hq)) (by simp at hd; omega)]
      rfl
theorem stB_len (h : 0 ≤ U 19 w ∧ U 19 w ≤ 120) : (stB U w b).length ≤ 120 := by
  unfold stB stL
  refine Nat.le_trans (List.length_filter_le _ _) ?_
  rw [List.length_map, List.length_range]
  omega
theorem bC_l (zd : ZD w U) (hb : Ab w U b) (w0 : 0 ≤ w) (h19 : 0 ≤ U 19 w ∧ U 19 w ≤ 120) : bC U w c b = (stB U w b).foldl (fun a t => sOr a (c t)) 0 := by
  unfold bC
  have := hb.1
  rw [if_neg (by omega)]
  have sl := stB_len (b := b) h19
  exact tCh_l _ _ _ _ (zd b hb).1 (fun t ht => by have := (stB_in.mp ht).1.1; omega) (by omega)
theorem foldl_cg {α : Type} {f g : α → Int → α} : ∀ (L : List Int) (a : α), (∀ t, t ∈ L → ∀ z, f z t = g z t) → L.foldl f a = L.foldl g a := by
  intro L
  induction L with
  | nil => intro a _; rfl
  | cons t L ih =>
    intro a h
    show L.foldl f (f a t) = L.foldl g (g a t)
    rw [h t List.mem_cons_self, ih _ (fun q hq => h q (List.mem_cons_of_mem _ hq))]
theorem bC_cg (zd : ZD w U) (hb : b = -1 ∨ Ab w U b) (w0 : 0 ≤ w) (h19 : 0 ≤ U 19 w ∧ U 19 w ≤ 120) (h : ∀ t, As w U t → U 22 t = b → c t = c' t) : bC U w c b = bC U w c' b := by
  rcases hb with hb | hb
  · unfold bC
    rw [if_pos hb, if_pos hb]
  · rw [bC_l zd hb w0 h19, bC_l zd hb w0 h19]
    exact foldl_cg _ _ (fun t ht z => by rw [h t (stB_in.mp ht).1 (stB_in.mp ht).2])
end BCL
