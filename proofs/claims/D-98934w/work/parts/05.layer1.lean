/-! THE LAYER, 1: the abstract heap, what stands for it, the judgement -/
abbrev cz_v : Type := Int32 ⊕ Option Nat ⊕ Int64
abbrev cz_i (x : Int32) : cz_v := .inl x
abbrev cz_r (r : Option Nat) : cz_v := .inr (.inl r)
abbrev cz_j (x : Int64) : cz_v := .inr (.inr x)
def cz_val : cz_v → Value
  | .inl x => .int x
  | .inr (.inl r) => va_rf r
  | .inr (.inr x) => .long x
def cz_cat : cz_v → Nat
  | .inl _ => 1
  | .inr (.inl _) => 1
  | .inr (.inr _) => 2
theorem cz_cat_rf (r : Option Nat) : (va_rf r).category = 1 := by cases r <;> rfl
theorem cz_cat_val (v : cz_v) : (cz_val v).category = cz_cat v := by
  rcases v with x | r | x
  · rfl
  · exact cz_cat_rf r
  · rfl
/-- an abstract cell: an object (class number, fields) or an array (kind, length, contents) -/
abbrev cz_C : Type := (Nat × (Nat → cz_v)) ⊕ (Nat × vp_A)
/-- what doesn't change in a run: the first address of ours, the last cell and slot that there is room for, the constants -/
abbrev cz_E : Type := Nat × Nat × Nat × (Nat → Option Nat)
abbrev cz_H : Type := cz_E × Nat × Nat × (Nat → Option cz_C)
abbrev cz_O : Type := Option cz_v ⊕ Nat
abbrev cz_Z : Type := Option (cz_O × cz_H)
abbrev cz_D : Type := va_G × (Nat → ClassId) × cz_E
def cz_set (h : cz_H) (a : Nat) (x : cz_C) : cz_H := (h.1, h.2.1, h.2.2.1, fun q => if q = a then some x else h.2.2.2 q)
def cz_new (h : cz_H) (x : cz_C) (n : Nat) : cz_H := (h.1, h.2.1 + 1, h.2.2.1 + n, fun q => if q = h.2.1 then some x else h.2.2.2 q)
/-- the slots of the cells from k on -/
def cz_sl (k : Nat) (H : Heap) : Nat := ((H.toList.drop k).map (fun c => c.slots.size)).sum
/-- H has grown out of H0: each cell keeps its number of slots, those below b are as they were -/
def cz_X (b : Nat) (H0 H : Heap) : Prop := H0.size ≤ H.size ∧ ∀ (a : Nat) (x : Cell), H0[a]? = some x → ∃ x' : Cell, H[a]? = some x' ∧ x'.slots.size = x.slots.size ∧ (a < b → x' = x)
theorem cz_X.rf {b : Nat} {H : Heap} : cz_X b H H := ⟨Nat.le_refl _, fun _ x h => ⟨x, h, rfl, fun _ => rfl⟩⟩
theorem cz_X.tr {b : Nat} {H0 H1 H2 : Heap} (h : cz_X b H0 H1) (k : cz_X b H1 H2) : cz_X b H0 H2 := by
  refine ⟨Nat.le_trans h.1 k.1, fun a x e => ?_⟩
  obtain ⟨x1, e1, s1, b1⟩ := h.2 a x e
  obtain ⟨x2, e2, s2, b2⟩ := k.2 a x1 e1
  exact ⟨x2, e2, s2.trans s1, fun hb => (b2 hb).trans (b1 hb)⟩
theorem cz_X.old {b : Nat} {H0 H : Heap} (h : cz_X b H0 H) {q : Nat} (hq : q < H0.size) (hb : q < b) : H[q]? = H0[q]? := by
  obtain ⟨x', e, -, hx⟩ := h.2 q _ (Array.getElem?_eq_getElem hq)
  rw [e, hx hb, Array.getElem?_eq_getElem hq]
/-- one cell is written -/
theorem cz_X.put {b : Nat} {H H' : Heap} {a : Nat} {x x' : Cell} (ha : H[a]? = some x) (h1 : H'[a]? = some x') (hs : x'.slots.size = x.slots.size) (hz : H'.size = H.size) (hk : ∀ q, q ≠ a → H'[q]? = H[q]?) (hb : b ≤ a) : cz_X b H H' := by
  refine ⟨Nat.le_of_eq hz.symm, fun q y e => ?_⟩
  by_cases hq : q = a
  · subst hq
    cases ha.symm.trans e
    exact ⟨x', h1, hs, fun h => absurd h (Nat.not_lt.mpr hb)⟩
  · exact ⟨y, by rw [hk q hq]; exact e, rfl, fun _ => rfl⟩
/-- one cell is made -/
theorem cz_X.push {b : Nat} {H H' : Heap} {k : Nat} (hh : H.size = k) (hz : H'.size = k + 1) (hk : ∀ q, q < k → H'[q]? = H[q]?) : cz_X b H H' := by
  refine ⟨by omega, fun q y e => ⟨y, ?_, rfl, fun _ => rfl⟩⟩
  rw [hk q (by rw [← hh]; exact (Array.getElem?_eq_some_iff.mp e).1)]
  exact e
theorem cz_sl_ext {b : Nat} {H H' : Heap} (h : cz_X b H H') (k : Nat) (hk : k ≤ H.size) : cz_sl k H' = cz_sl k H + cz_sl H.size H' := by
  have e : H'.toList.map (fun c => c.slots.size) = H.toList.map (fun c => c.slots.size) ++ (H'.toList.drop H.size).map (fun c => c.slots.size) := by
    conv => lhs; rw [← List.take_append_drop H.size H'.toList, List.map_append]
    congr 1
    apply List.ext_getElem?
    intro i
    rw [List.getElem?_map, List.getElem?_map, List.getElem?_take]
    by_cases hi : i < H.size
    · rw [if_pos hi]
      obtain ⟨x', e1, s1, -⟩ := h.2 i _ (Array.getElem?_eq_getElem hi)
      rw [Array.getElem?_toList, e1, Array.getElem?_toList, Array.getElem?_eq_getElem hi]
      simp [s1]
    · rw [if_neg hi, Array.getElem?_toList, Array.getElem?_eq_none (Nat.le_of_not_lt hi)]
  have hl : k ≤ (H.toList.map (fun c => c.slots.size)).length := by simpa using hk
  unfold cz_sl
  rw [List.map_drop, List.map_drop, e, List.drop_append_of_le_length hl, List.sum_append]
theorem cz_sl_self (H : Heap) : cz_sl H.size H = 0 := by
  unfold cz_sl
  rw [List.drop_eq_nil_of_le (by simp)]
  rfl
theorem cz_sl_put {b : Nat} {H H' : Heap} (h : cz_X b H H') (hz : H'.size = H.size) (k : Nat) (hk : k ≤ H.size) : cz_sl k H' = cz_sl k H := by
  rw [cz_sl_ext h k hk, ← hz, cz_sl_self, Nat.add_zero]
theorem cz_sl_push {b : Nat} {H H' : Heap} {x : Cell} (h : cz_X b H H') (hz : H'.size = H.size + 1) (hx : H'[H.size]? = some x) (k : Nat) (hk : k ≤ H.size) : cz_sl k H' = cz_sl k H + x.slots.size := by
  rw [cz_sl_ext h k hk]
  congr 1
  unfold cz_sl
  have e : H'.toList.drop H.size = [x] := by
    apply List.ext_getElem?
    intro i
    rw [List.getElem?_drop, Array.getElem?_toList]
    match i with
    | 0 => simpa using hx
    | i + 1 =>
      rw [Array.getElem?_eq_none (by omega)]
      rfl
  rw [e]
  simp
/-- what a byte array holds are bytes -/
def cz_byt (y : vp_A) : Prop := ∀ (n : Nat) (f : Nat → Int32), y = (n, .inl f) → ∀ j, j < n → (f j).toInt8.toInt32 = f j
/-- the slots hold the array y; those of an old cell may go on behind it (its length alone is known, as an int) -/
def cz_ar (b a : Nat) (sl : Array Value) (y : vp_A) : Prop := (b ≤ a → sl = (vp_cell 0 y).slots) ∧ y.1 ≤ sl.size ∧ sl.size.toInt32 = Int32.ofNat y.1 ∧ ∀ j, j < y.1 → sl[j]? = (vp_cell 0 y).slots[j]?
theorem cz_ar.of {b a : Nat} {sl : Array Value} {y : vp_A} (h : sl = (vp_cell 0 y).slots) : cz_ar b a sl y := by
  subst h
  have e : (vp_cell 0 y).slots.size = y.1 := by
    obtain ⟨n, q⟩ := y
    rcases q with f | f | f | f | f <;> exact arrV_size _ _ _
  exact ⟨fun _ => rfl, Nat.le_of_eq e.symm, by rw [e], fun _ _ => rfl⟩
/-- the cell at a stands for x -/
def cz_at (D : cz_D) (a : Nat) (x : cz_C) (H : Heap) : Prop := match x with
  | .inl o => ∃ (r : vw_C) (cell : Cell), cz_cl[o.1]? = some r ∧ H[a]? = some cell ∧ cell.cls = D.1.1 o.1 ∧ cell.vm.isStatics = false ∧ cell.vm ≠ .unknown ∧ (D.2.2.1 ≤ a → cell.vm = .none) ∧ ∀ k, k < r.2.2 → (o.1 = 8 → k < 2) → cell.slots[D.1.2 o.1 k]? = some (cz_val (o.2 k))
  | .inr y => ∃ cell : Cell, H[a]? = some cell ∧ cell.cls = D.2.1 y.1 ∧ cell.vm.isStatics = false ∧ cell.vm ≠ .unknown ∧ (D.2.2.1 ≤ a → cell.vm = .none) ∧ cz_ar D.2.2.1 a cell.slots y.2 ∧ (y.1 = 1 → cz_byt y.2)
theorem cz_at.kept {D : cz_D} {a : Nat} {x : cz_C} {H H1 : Heap} (h : cz_at D a x H) (e : H1[a]? = H[a]?) : cz_at D a x H1 := by
  rcases x with o | y
  · obtain ⟨r, cell, h1, h2, h3⟩ := h
    exact ⟨r, cell, h1, by rw [e]; exact h2, h3⟩
  · obtain ⟨cell, h2, h3⟩ := h
    exact ⟨cell, by rw [e]; exact h2, h3⟩
theorem cz_at.lt {D : cz_D} {a : Nat} {x : cz_C} {H : Heap} (h : cz_at D a x H) : a < H.size := by
  rcases x with o | y
  · obtain ⟨r, cell, -, h2, -⟩ := h
    exact (Array.getElem?_eq_some_iff.mp h2).1
  · obtain ⟨cell, h2, -⟩ := h
    exact (Array.getElem?_eq_some_iff.mp h2).1
/-- the heap H stands for h -/
def cz_R (D : cz_D) (h : cz_H) (H : Heap) : Prop := h.1 = D.2.2 ∧ H.size = h.2.1 ∧ h.2.1 ≤ D.2.2.2.1 ∧ h.2.2.1 ≤ D.2.2.2.2.1 ∧ D.2.2.1 ≤ h.2.1 ∧ ∀ (a : Nat) (x : cz_C), h.2.2.2 a = some x → cz_at D a x H
theorem cz_R.put {D : cz_D} {h : cz_H} {H H' : Heap} {a : Nat} {x : cz_C} (hR : cz_R D h H) (hz : H'.size = H.size) (hk : ∀ q, q ≠ a → H'[q]? = H[q]?) (hx : cz_at D a x H') : cz_R D (cz_set h a x) H' := by
  obtain ⟨h1, h2, h3, h4, h5, h6⟩ := hR
  refine ⟨h1, hz.trans h2, h3, h4, h5, fun q y e => ?_⟩
  have e : (if q = a then some x else h.2.2.2 q) = some y := e
  by_cases hq : q = a
  · rw [if_pos hq] at e
    cases e
    rw [hq]
    exact hx
  · rw [if_neg hq] at e
    exact (h6 q y e).kept (hk q hq)
theorem cz_R.push {D : cz_D} {h : cz_H} {H H' : Heap} {x : cz_C} {n : Nat} (hR : cz_R D h H) (hz : H'.size = h.2.1 + 1) (hk : ∀ q, q < h.2.1 → H'[q]? = H[q]?) (hx : cz_at D h.2.1 x H') (hc : h.2.1 + 1 ≤ h.1.2.1) (hs : h.2.2.1 + n ≤ h.1.2.2.1) : cz_R D (cz_new h x n) H' := by
  obtain ⟨h1, h2, h3, h4, h5, h6⟩ := hR
  rw [h1] at hc hs
  refine ⟨h1, hz, hc, hs, Nat.le_succ_of_le h5, fun q y e => ?_⟩
  have e : (if q = h.2.1 then some x else h.2.2.2 q) = some y := e
  by_cases hq : q = h.2.1
  · rw [if_pos hq] at e
    cases e
    rw [hq]
    exact hx
  · rw [if_neg hq] at e
    have h7 := h6 q y e
    exact h7.kept (hk q (by rw [← h2]; exact h7.lt))
