/-! THE PLAIN LAW, 1: the reference's object as one pure state; how the heap's operations read on it (printed by wip/D-98934w/gen/pure1.py) -/
set_option maxRecDepth 100000
theorem px_in {n L : Nat} (h : n < 2 ^ 31) (hn : n < L) : ¬ (Int32.ofNat n < 0 ∨ L ≤ (Int32.ofNat n).toNatClampNeg) := by
  rw [Int32.toNatClampNeg_ofNat_of_lt h]
  intro q
  rcases q with q | q
  · have e : (0 : Int32) = Int32.ofNat 0 := rfl
    rw [e, Int32.ofNat_lt_ofNat h (by decide)] at q
    omega
  · omega
/-- ints; the word; arrays of ints; arrays of longs: by the numbers of the fields -/
abbrev px_M : Type := (Nat → Int32) × Int64 × (Nat → Nat → Int32) × (Nat → Nat → Int64)
def px_I (M : px_M) (j : Nat) (v : Int32) : px_M := (fun q => if q = j then v else M.1 q, M.2.1, M.2.2.1, M.2.2.2)
def px_W (M : px_M) (v : Int64) : px_M := (M.1, v, M.2.2.1, M.2.2.2)
def px_A (M : px_M) (j i : Nat) (v : Int32) : px_M := (M.1, M.2.1, fun q => if q = j then upd (M.2.2.1 j) i v else M.2.2.1 q, M.2.2.2)
def px_L (M : px_M) (j i : Nat) (v : Int64) : px_M := (M.1, M.2.1, M.2.2.1, fun q => if q = j then vp_updL (M.2.2.2 j) i v else M.2.2.2 q)
def px_fld (m : Nat) (M : px_M) (j : Nat) : cz_v := if j = 1 then cz_r (some (m + 1)) else if j = 6 then cz_r (some (m + 2)) else if j = 7 then cz_r (some (m + 3)) else if j = 8 then cz_r (some (m + 4)) else if j = 9 then cz_r (some (m + 5)) else if j = 10 then cz_r (some (m + 6)) else if j = 21 then cz_r (some (m + 7)) else if j = 22 then cz_r (some (m + 8)) else if j = 32 then cz_r (some (m + 9)) else if j = 37 then cz_r (some (m + 10)) else if j = 39 then cz_r (some (m + 11)) else if j = 45 then cz_r (some (m + 12)) else if j = 46 then cz_r (some (m + 13)) else if j = 47 then cz_r (some (m + 14)) else if j = 48 then cz_r (some (m + 15)) else if j = 17 then cz_j M.2.1 else cz_i (M.1 j)
def px_cell (m : Nat) (M : px_M) : Nat → cz_C
  | 0 => .inl (5, px_fld m M)
  | 1 => .inr (1, 940, .inl (M.2.2.1 1))
  | 2 => .inr (0, 299, .inl (M.2.2.1 6))
  | 3 => .inr (0, 62, .inl (M.2.2.1 7))
  | 4 => .inr (0, 135, .inl (M.2.2.1 8))
  | 5 => .inr (3, 44, .inr (.inl (M.2.2.2 9)))
  | 6 => .inr (3, 24, .inr (.inl (M.2.2.2 10)))
  | 7 => .inr (0, 448, .inl (M.2.2.1 21))
  | 8 => .inr (0, 56, .inl (M.2.2.1 22))
  | 9 => .inr (0, 6, .inl (M.2.2.1 32))
  | 10 => .inr (0, 4, .inl (M.2.2.1 37))
  | 11 => .inr (0, 45, .inl (M.2.2.1 39))
  | 12 => .inr (2, 45, .inl (M.2.2.1 45))
  | 13 => .inr (0, 598, .inl (M.2.2.1 46))
  | 14 => .inr (3, 44, .inr (.inl (M.2.2.2 47)))
  | _ => .inr (2, 2, .inl (M.2.2.1 48))
def px_set (h : cz_H) (m : Nat) (M : px_M) : cz_H := (h.1, h.2.1, h.2.2.1, fun q => if m ≤ q ∧ q < m + 16 then some (px_cell m M (q - m)) else h.2.2.2 q)
theorem px_at (h : cz_H) (m : Nat) (M : px_M) {k : Nat} (hk : k < 16) : (px_set h m M).2.2.2 (m + k) = some (px_cell m M k) := by
  show (if m ≤ m + k ∧ m + k < m + 16 then some (px_cell m M (m + k - m)) else h.2.2.2 (m + k)) = _
  rw [if_pos (by omega), Nat.add_sub_cancel_left]
theorem px_at0 (h : cz_H) (m : Nat) (M : px_M) : (px_set h m M).2.2.2 m = some (.inl (5, px_fld m M)) := px_at h m M (k := 0) (by decide)
theorem px_put (h : cz_H) (m : Nat) (M M2 : px_M) {k : Nat} (hk : k < 16) {x : cz_C} (hx : x = px_cell m M2 k) (he : ∀ q, q < 16 → q ≠ k → px_cell m M q = px_cell m M2 q) : cz_set (px_set h m M) (m + k) x = px_set h m M2 := by
  unfold cz_set px_set
  refine Prod.ext rfl (Prod.ext rfl (Prod.ext rfl ?_))
  funext q
  dsimp only
  by_cases hq : q = m + k
  · subst hq
    rw [if_pos rfl, if_pos (by omega), Nat.add_sub_cancel_left, hx]
  · rw [if_neg hq]
    by_cases hm : m ≤ q ∧ q < m + 16
    · rw [if_pos hm, if_pos hm, he (q - m) (by omega) (by omega)]
    · rw [if_neg hm, if_neg hm]
section PXA
variable {h : cz_H} {m : Nat} {M : px_M}
theorem px_fldI {j : Nat} (hj : j ∉ [1, 6, 7, 8, 9, 10, 21, 22, 32, 37, 39, 45, 46, 47, 48]) (h17 : j ≠ 17) : px_fld m M j = cz_i (M.1 j) := by
  simp only [List.mem_cons, List.not_mem_nil, or_false, not_or] at hj
  simp only [px_fld, hj, h17, if_false]
theorem px_getI {j : Nat} {kk : Int32 → cz_Z} (hj : j ∉ [1, 6, 7, 8, 9, 10, 21, 22, 32, 37, 39, 45, 46, 47, 48]) (h17 : j ≠ 17) : cz_getI (px_set h m M) (some m) [(5, j)] kk = kk (M.1 j) := by
  unfold cz_getI cz_fld
  dsimp only
  rw [px_at0]
  show cz_toI kk (px_fld m M j) = _
  rw [px_fldI hj h17]
  rfl
theorem px_getJ {kk : Int64 → cz_Z} : cz_getJ (px_set h m M) (some m) [(5, 17)] kk = kk M.2.1 := by
  unfold cz_getJ cz_fld
  dsimp only
  rw [px_at0]
  rfl
theorem px_putI {j : Nat} {v : Int32} {kk : cz_H → cz_Z} (hj : j ∉ [1, 6, 7, 8, 9, 10, 21, 22, 32, 37, 39, 45, 46, 47, 48]) (h17 : j ≠ 17) (hb : h.1.1 ≤ m) : cz_put (px_set h m M) (some m) [(5, j)] (cz_i v) kk = kk (px_set h m (px_I M j v)) := by
  unfold cz_put
  dsimp only
  rw [px_at0]
  show (if h.1.1 ≤ m then kk (cz_set (px_set h m M) (m + 0) _) else none) = _
  rw [if_pos hb, px_put h m M (px_I M j v) (k := 0) (by decide)]
  · show _ = Sum.inl (5, px_fld m (px_I M j v))
    congr 1
    refine Prod.ext rfl ?_
    funext q
    dsimp only
    by_cases hq : q = j
    · subst hq
      rw [if_pos rfl, px_fldI hj h17]
      simp [px_I]
    · rw [if_neg hq]
      simp [px_fld, px_I, hq]
  · intro q hq0 hq
    match q, hq0, hq with
    | 0, _, hq => exact absurd rfl hq
    | 1, _, _ => rfl
    | 2, _, _ => rfl
    | 3, _, _ => rfl
    | 4, _, _ => rfl
    | 5, _, _ => rfl
    | 6, _, _ => rfl
    | 7, _, _ => rfl
    | 8, _, _ => rfl
    | 9, _, _ => rfl
    | 10, _, _ => rfl
    | 11, _, _ => rfl
    | 12, _, _ => rfl
    | 13, _, _ => rfl
    | 14, _, _ => rfl
    | 15, _, _ => rfl
    | q + 16, hq0, _ => exact absurd hq0 (by omega)
theorem px_putJ {v : Int64} {kk : cz_H → cz_Z} (hb : h.1.1 ≤ m) : cz_put (px_set h m M) (some m) [(5, 17)] (cz_j v) kk = kk (px_set h m (px_W M v)) := by
  unfold cz_put
  dsimp only
  rw [px_at0]
  show (if h.1.1 ≤ m then kk (cz_set (px_set h m M) (m + 0) _) else none) = _
  rw [if_pos hb, px_put h m M (px_W M v) (k := 0) (by decide)]
  · show _ = Sum.inl (5, px_fld m (px_W M v))
    congr 1
    refine Prod.ext rfl ?_
    funext q
    dsimp only
    by_cases hq : q = 17
    · subst hq
      rw [if_pos rfl]
      simp [px_fld, px_W]
    · rw [if_neg hq]
      simp [px_fld, px_W, hq]
  · intro q hq0 hq
    match q, hq0, hq with
    | 0, _, hq => exact absurd rfl hq
    | 1, _, _ => rfl
    | 2, _, _ => rfl
    | 3, _, _ => rfl
    | 4, _, _ => rfl
    | 5, _, _ => rfl
    | 6, _, _ => rfl
    | 7, _, _ => rfl
    | 8, _, _ => rfl
    | 9, _, _ => rfl
    | 10, _, _ => rfl
    | 11, _, _ => rfl
    | 12, _, _ => rfl
    | 13, _, _ => rfl
    | 14, _, _ => rfl
    | 15, _, _ => rfl
    | q + 16, hq0, _ => exact absurd hq0 (by omega)
theorem pr_tape {kk : Option Nat → cz_Z} : cz_getR (px_set h m M) (some m) [(5, 1)] kk = kk (some (m + 1)) := by
  unfold cz_getR cz_fld
  dsimp only
  rw [px_at0]
  rfl
theorem pl_tape {i : Int32} {kk : Int32 → cz_Z} : cz_bald (px_set h m M) (some (m + 1)) i kk = if i < 0 ∨ 940 ≤ i.toNatClampNeg then none else kk (M.2.2.1 1 i.toNatClampNeg) := by
  unfold cz_bald cz_arr
  dsimp only
  rw [px_at h m M (by decide)]
  rfl
theorem pln_tape {n : Nat} {kk : Int32 → cz_Z} (hn : n < 940) : cz_bald (px_set h m M) (some (m + 1)) (Int32.ofNat n) kk = kk (M.2.2.1 1 n) := by
  rw [pl_tape, if_neg (px_in (Nat.lt_of_lt_of_le hn (Nat.le_of_ble_eq_true rfl)) hn), Int32.toNatClampNeg_ofNat_of_lt (Nat.lt_of_lt_of_le hn (Nat.le_of_ble_eq_true rfl))]
theorem ps_tape {i : Int32} {v : Int32} {kk : cz_H → cz_Z} (hb : h.1.1 ≤ m) : cz_bast (px_set h m M) (some (m + 1)) i v kk = if i < 0 ∨ 940 ≤ i.toNatClampNeg then none else kk (px_set h m (px_A M 1 i.toNatClampNeg v.toInt8.toInt32)) := by
  unfold cz_bast cz_arr
  dsimp only
  rw [px_at h m M (by decide)]
  show (if 1 = 1 ∧ h.1.1 ≤ m + 1 then (if _ then none else kk (cz_set _ _ _)) else _) = _
  rw [if_pos ⟨rfl, Nat.le_add_right_of_le hb⟩]
  rw [px_put h m M (px_A M 1 i.toNatClampNeg v.toInt8.toInt32) (k := 1) (by decide)]
  · simp [px_cell, px_A]
  · intro q hq0 hq
    match q, hq0, hq with
    | 0, _, _ => rfl
    | 1, _, hq => exact absurd rfl hq
    | 2, _, _ => rfl
    | 3, _, _ => rfl
    | 4, _, _ => rfl
    | 5, _, _ => rfl
    | 6, _, _ => rfl
    | 7, _, _ => rfl
    | 8, _, _ => rfl
    | 9, _, _ => rfl
    | 10, _, _ => rfl
    | 11, _, _ => rfl
    | 12, _, _ => rfl
    | 13, _, _ => rfl
    | 14, _, _ => rfl
    | 15, _, _ => rfl
    | q + 16, hq, _ => exact absurd hq (by omega)
theorem psn_tape {n : Nat} {v : Int32} {kk : cz_H → cz_Z} (hn : n < 940) (hb : h.1.1 ≤ m) : cz_bast (px_set h m M) (some (m + 1)) (Int32.ofNat n) v kk = kk (px_set h m (px_A M 1 n v.toInt8.toInt32)) := by
  rw [ps_tape hb, if_neg (px_in (Nat.lt_of_lt_of_le hn (Nat.le_of_ble_eq_true rfl)) hn), Int32.toNatClampNeg_ofNat_of_lt (Nat.lt_of_lt_of_le hn (Nat.le_of_ble_eq_true rfl))]
theorem pr_s {kk : Option Nat → cz_Z} : cz_getR (px_set h m M) (some m) [(5, 6)] kk = kk (some (m + 2)) := by
  unfold cz_getR cz_fld
  dsimp only
  rw [px_at0]
  rfl
theorem pl_s {i : Int32} {kk : Int32 → cz_Z} : cz_iald (px_set h m M) (some (m + 2)) i kk = if i < 0 ∨ 299 ≤ i.toNatClampNeg then none else kk (M.2.2.1 6 i.toNatClampNeg) := by
  unfold cz_iald cz_arr
  dsimp only
  rw [px_at h m M (by decide)]
  rfl
theorem pln_s {n : Nat} {kk : Int32 → cz_Z} (hn : n < 299) : cz_iald (px_set h m M) (some (m + 2)) (Int32.ofNat n) kk = kk (M.2.2.1 6 n) := by
  rw [pl_s, if_neg (px_in (Nat.lt_of_lt_of_le hn (Nat.le_of_ble_eq_true rfl)) hn), Int32.toNatClampNeg_ofNat_of_lt (Nat.lt_of_lt_of_le hn (Nat.le_of_ble_eq_true rfl))]
theorem ps_s {i : Int32} {v : Int32} {kk : cz_H → cz_Z} (hb : h.1.1 ≤ m) : cz_iast (px_set h m M) (some (m + 2)) i v kk = if i < 0 ∨ 299 ≤ i.toNatClampNeg then none else kk (px_set h m (px_A M 6 i.toNatClampNeg v)) := by
  unfold cz_iast cz_arr
  dsimp only
  rw [px_at h m M (by decide)]
  show (if 0 = 0 ∧ h.1.1 ≤ m + 2 then (if _ then none else kk (cz_set _ _ _)) else none) = _
  rw [if_pos ⟨rfl, Nat.le_add_right_of_le hb⟩]
  rw [px_put h m M (px_A M 6 i.toNatClampNeg v) (k := 2) (by decide)]
  · simp [px_cell, px_A]
  · intro q hq0 hq
    match q, hq0, hq with
    | 0, _, _ => rfl
    | 1, _, _ => rfl
    | 2, _, hq => exact absurd rfl hq
    | 3, _, _ => rfl
    | 4, _, _ => rfl
    | 5, _, _ => rfl
    | 6, _, _ => rfl
    | 7, _, _ => rfl
    | 8, _, _ => rfl
    | 9, _, _ => rfl
    | 10, _, _ => rfl
    | 11, _, _ => rfl
    | 12, _, _ => rfl
    | 13, _, _ => rfl
    | 14, _, _ => rfl
    | 15, _, _ => rfl
    | q + 16, hq, _ => exact absurd hq (by omega)
theorem psn_s {n : Nat} {v : Int32} {kk : cz_H → cz_Z} (hn : n < 299) (hb : h.1.1 ≤ m) : cz_iast (px_set h m M) (some (m + 2)) (Int32.ofNat n) v kk = kk (px_set h m (px_A M 6 n v)) := by
  rw [ps_s hb, if_neg (px_in (Nat.lt_of_lt_of_le hn (Nat.le_of_ble_eq_true rfl)) hn), Int32.toNatClampNeg_ofNat_of_lt (Nat.lt_of_lt_of_le hn (Nat.le_of_ble_eq_true rfl))]
theorem pr_h {kk : Option Nat → cz_Z} : cz_getR (px_set h m M) (some m) [(5, 7)] kk = kk (some (m + 3)) := by
  unfold cz_getR cz_fld
  dsimp only
  rw [px_at0]
  rfl
theorem pl_h {i : Int32} {kk : Int32 → cz_Z} : cz_iald (px_set h m M) (some (m + 3)) i kk = if i < 0 ∨ 62 ≤ i.toNatClampNeg then none else kk (M.2.2.1 7 i.toNatClampNeg) := by
  unfold cz_iald cz_arr
  dsimp only
  rw [px_at h m M (by decide)]
  rfl
theorem pln_h {n : Nat} {kk : Int32 → cz_Z} (hn : n < 62) : cz_iald (px_set h m M) (some (m + 3)) (Int32.ofNat n) kk = kk (M.2.2.1 7 n) := by
  rw [pl_h, if_neg (px_in (Nat.lt_of_lt_of_le hn (Nat.le_of_ble_eq_true rfl)) hn), Int32.toNatClampNeg_ofNat_of_lt (Nat.lt_of_lt_of_le hn (Nat.le_of_ble_eq_true rfl))]
theorem ps_h {i : Int32} {v : Int32} {kk : cz_H → cz_Z} (hb : h.1.1 ≤ m) : cz_iast (px_set h m M) (some (m + 3)) i v kk = if i < 0 ∨ 62 ≤ i.toNatClampNeg then none else kk (px_set h m (px_A M 7 i.toNatClampNeg v)) := by
  unfold cz_iast cz_arr
  dsimp only
  rw [px_at h m M (by decide)]
  show (if 0 = 0 ∧ h.1.1 ≤ m + 3 then (if _ then none else kk (cz_set _ _ _)) else none) = _
  rw [if_pos ⟨rfl, Nat.le_add_right_of_le hb⟩]
  rw [px_put h m M (px_A M 7 i.toNatClampNeg v) (k := 3) (by decide)]
  · simp [px_cell, px_A]
  · intro q hq0 hq
    match q, hq0, hq with
    | 0, _, _ => rfl
    | 1, _, _ => rfl
    | 2, _, _ => rfl
    | 3, _, hq => exact absurd rfl hq
    | 4, _, _ => rfl
    | 5, _, _ => rfl
    | 6, _, _ => rfl
    | 7, _, _ => rfl
    | 8, _, _ => rfl
    | 9, _, _ => rfl
    | 10, _, _ => rfl
    | 11, _, _ => rfl
    | 12, _, _ => rfl
    | 13, _, _ => rfl
    | 14, _, _ => rfl
    | 15, _, _ => rfl
    | q + 16, hq, _ => exact absurd hq (by omega)
theorem psn_h {n : Nat} {v : Int32} {kk : cz_H → cz_Z} (hn : n < 62) (hb : h.1.1 ≤ m) : cz_iast (px_set h m M) (some (m + 3)) (Int32.ofNat n) v kk = kk (px_set h m (px_A M 7 n v)) := by
  rw [ps_h hb, if_neg (px_in (Nat.lt_of_lt_of_le hn (Nat.le_of_ble_eq_true rfl)) hn), Int32.toNatClampNeg_ofNat_of_lt (Nat.lt_of_lt_of_le hn (Nat.le_of_ble_eq_true rfl))]
theorem pr_read {kk : Option Nat → cz_Z} : cz_getR (px_set h m M) (some m) [(5, 8)] kk = kk (some (m + 4)) := by
  unfold cz_getR cz_fld
  dsimp only
  rw [px_at0]
  rfl
theorem pl_read {i : Int32} {kk : Int32 → cz_Z} : cz_iald (px_set h m M) (some (m + 4)) i kk = if i < 0 ∨ 135 ≤ i.toNatClampNeg then none else kk (M.2.2.1 8 i.toNatClampNeg) := by
  unfold cz_iald cz_arr
  dsimp only
  rw [px_at h m M (by decide)]
  rfl
theorem pln_read {n : Nat} {kk : Int32 → cz_Z} (hn : n < 135) : cz_iald (px_set h m M) (some (m + 4)) (Int32.ofNat n) kk = kk (M.2.2.1 8 n) := by
  rw [pl_read, if_neg (px_in (Nat.lt_of_lt_of_le hn (Nat.le_of_ble_eq_true rfl)) hn), Int32.toNatClampNeg_ofNat_of_lt (Nat.lt_of_lt_of_le hn (Nat.le_of_ble_eq_true rfl))]
theorem ps_read {i : Int32} {v : Int32} {kk : cz_H → cz_Z} (hb : h.1.1 ≤ m) : cz_iast (px_set h m M) (some (m + 4)) i v kk = if i < 0 ∨ 135 ≤ i.toNatClampNeg then none else kk (px_set h m (px_A M 8 i.toNatClampNeg v)) := by
  unfold cz_iast cz_arr
  dsimp only
  rw [px_at h m M (by decide)]
  show (if 0 = 0 ∧ h.1.1 ≤ m + 4 then (if _ then none else kk (cz_set _ _ _)) else none) = _
  rw [if_pos ⟨rfl, Nat.le_add_right_of_le hb⟩]
  rw [px_put h m M (px_A M 8 i.toNatClampNeg v) (k := 4) (by decide)]
  · simp [px_cell, px_A]
  · intro q hq0 hq
    match q, hq0, hq with
    | 0, _, _ => rfl
    | 1, _, _ => rfl
    | 2, _, _ => rfl
    | 3, _, _ => rfl
    | 4, _, hq => exact absurd rfl hq
    | 5, _, _ => rfl
    | 6, _, _ => rfl
    | 7, _, _ => rfl
    | 8, _, _ => rfl
    | 9, _, _ => rfl
    | 10, _, _ => rfl
    | 11, _, _ => rfl
    | 12, _, _ => rfl
    | 13, _, _ => rfl
    | 14, _, _ => rfl
    | 15, _, _ => rfl
    | q + 16, hq, _ => exact absurd hq (by omega)
theorem psn_read {n : Nat} {v : Int32} {kk : cz_H → cz_Z} (hn : n < 135) (hb : h.1.1 ≤ m) : cz_iast (px_set h m M) (some (m + 4)) (Int32.ofNat n) v kk = kk (px_set h m (px_A M 8 n v)) := by
  rw [ps_read hb, if_neg (px_in (Nat.lt_of_lt_of_le hn (Nat.le_of_ble_eq_true rfl)) hn), Int32.toNatClampNeg_ofNat_of_lt (Nat.lt_of_lt_of_le hn (Nat.le_of_ble_eq_true rfl))]
theorem pr_names {kk : Option Nat → cz_Z} : cz_getR (px_set h m M) (some m) [(5, 9)] kk = kk (some (m + 5)) := by
  unfold cz_getR cz_fld
  dsimp only
  rw [px_at0]
  rfl
theorem pl_names {i : Int32} {kk : Int64 → cz_Z} : cz_lald (px_set h m M) (some (m + 5)) i kk = if i < 0 ∨ 44 ≤ i.toNatClampNeg then none else kk (M.2.2.2 9 i.toNatClampNeg) := by
  unfold cz_lald cz_arr
  dsimp only
  rw [px_at h m M (by decide)]
  rfl
theorem pln_names {n : Nat} {kk : Int64 → cz_Z} (hn : n < 44) : cz_lald (px_set h m M) (some (m + 5)) (Int32.ofNat n) kk = kk (M.2.2.2 9 n) := by
  rw [pl_names, if_neg (px_in (Nat.lt_of_lt_of_le hn (Nat.le_of_ble_eq_true rfl)) hn), Int32.toNatClampNeg_ofNat_of_lt (Nat.lt_of_lt_of_le hn (Nat.le_of_ble_eq_true rfl))]
theorem ps_names {i : Int32} {v : Int64} {kk : cz_H → cz_Z} (hb : h.1.1 ≤ m) : cz_last (px_set h m M) (some (m + 5)) i v kk = if i < 0 ∨ 44 ≤ i.toNatClampNeg then none else kk (px_set h m (px_L M 9 i.toNatClampNeg v)) := by
  unfold cz_last cz_arr
  dsimp only
  rw [px_at h m M (by decide)]
  show (if 3 = 3 ∧ h.1.1 ≤ m + 5 then (if _ then none else kk (cz_set _ _ _)) else none) = _
  rw [if_pos ⟨rfl, Nat.le_add_right_of_le hb⟩]
  rw [px_put h m M (px_L M 9 i.toNatClampNeg v) (k := 5) (by decide)]
  · simp [px_cell, px_L]
  · intro q hq0 hq
    match q, hq0, hq with
    | 0, _, _ => rfl
    | 1, _, _ => rfl
    | 2, _, _ => rfl
    | 3, _, _ => rfl
    | 4, _, _ => rfl
    | 5, _, hq => exact absurd rfl hq
    | 6, _, _ => rfl
    | 7, _, _ => rfl
    | 8, _, _ => rfl
    | 9, _, _ => rfl
    | 10, _, _ => rfl
    | 11, _, _ => rfl
    | 12, _, _ => rfl
    | 13, _, _ => rfl
    | 14, _, _ => rfl
    | 15, _, _ => rfl
    | q + 16, hq, _ => exact absurd hq (by omega)
theorem psn_names {n : Nat} {v : Int64} {kk : cz_H → cz_Z} (hn : n < 44) (hb : h.1.1 ≤ m) : cz_last (px_set h m M) (some (m + 5)) (Int32.ofNat n) v kk = kk (px_set h m (px_L M 9 n v)) := by
  rw [ps_names hb, if_neg (px_in (Nat.lt_of_lt_of_le hn (Nat.le_of_ble_eq_true rfl)) hn), Int32.toNatClampNeg_ofNat_of_lt (Nat.lt_of_lt_of_le hn (Nat.le_of_ble_eq_true rfl))]
theorem pr_reserved {kk : Option Nat → cz_Z} : cz_getR (px_set h m M) (some m) [(5, 10)] kk = kk (some (m + 6)) := by
  unfold cz_getR cz_fld
  dsimp only
  rw [px_at0]
  rfl
theorem pl_reserved {i : Int32} {kk : Int64 → cz_Z} : cz_lald (px_set h m M) (some (m + 6)) i kk = if i < 0 ∨ 24 ≤ i.toNatClampNeg then none else kk (M.2.2.2 10 i.toNatClampNeg) := by
  unfold cz_lald cz_arr
  dsimp only
  rw [px_at h m M (by decide)]
  rfl
theorem pln_reserved {n : Nat} {kk : Int64 → cz_Z} (hn : n < 24) : cz_lald (px_set h m M) (some (m + 6)) (Int32.ofNat n) kk = kk (M.2.2.2 10 n) := by
  rw [pl_reserved, if_neg (px_in (Nat.lt_of_lt_of_le hn (Nat.le_of_ble_eq_true rfl)) hn), Int32.toNatClampNeg_ofNat_of_lt (Nat.lt_of_lt_of_le hn (Nat.le_of_ble_eq_true rfl))]
theorem ps_reserved {i : Int32} {v : Int64} {kk : cz_H → cz_Z} (hb : h.1.1 ≤ m) : cz_last (px_set h m M) (some (m + 6)) i v kk = if i < 0 ∨ 24 ≤ i.toNatClampNeg then none else kk (px_set h m (px_L M 10 i.toNatClampNeg v)) := by
  unfold cz_last cz_arr
  dsimp only
  rw [px_at h m M (by decide)]
  show (if 3 = 3 ∧ h.1.1 ≤ m + 6 then (if _ then none else kk (cz_set _ _ _)) else none) = _
  rw [if_pos ⟨rfl, Nat.le_add_right_of_le hb⟩]
  rw [px_put h m M (px_L M 10 i.toNatClampNeg v) (k := 6) (by decide)]
  · simp [px_cell, px_L]
  · intro q hq0 hq
    match q, hq0, hq with
    | 0, _, _ => rfl
    | 1, _, _ => rfl
    | 2, _, _ => rfl
    | 3, _, _ => rfl
    | 4, _, _ => rfl
    | 5, _, _ => rfl
    | 6, _, hq => exact absurd rfl hq
    | 7, _, _ => rfl
    | 8, _, _ => rfl
    | 9, _, _ => rfl
    | 10, _, _ => rfl
    | 11, _, _ => rfl
    | 12, _, _ => rfl
    | 13, _, _ => rfl
    | 14, _, _ => rfl
    | 15, _, _ => rfl
    | q + 16, hq, _ => exact absurd hq (by omega)
theorem psn_reserved {n : Nat} {v : Int64} {kk : cz_H → cz_Z} (hn : n < 24) (hb : h.1.1 ≤ m) : cz_last (px_set h m M) (some (m + 6)) (Int32.ofNat n) v kk = kk (px_set h m (px_L M 10 n v)) := by
  rw [ps_reserved hb, if_neg (px_in (Nat.lt_of_lt_of_le hn (Nat.le_of_ble_eq_true rfl)) hn), Int32.toNatClampNeg_ofNat_of_lt (Nat.lt_of_lt_of_le hn (Nat.le_of_ble_eq_true rfl))]
theorem pr_undone {kk : Option Nat → cz_Z} : cz_getR (px_set h m M) (some m) [(5, 21)] kk = kk (some (m + 7)) := by
  unfold cz_getR cz_fld
  dsimp only
  rw [px_at0]
  rfl
theorem pl_undone {i : Int32} {kk : Int32 → cz_Z} : cz_iald (px_set h m M) (some (m + 7)) i kk = if i < 0 ∨ 448 ≤ i.toNatClampNeg then none else kk (M.2.2.1 21 i.toNatClampNeg) := by
  unfold cz_iald cz_arr
  dsimp only
  rw [px_at h m M (by decide)]
  rfl
theorem pln_undone {n : Nat} {kk : Int32 → cz_Z} (hn : n < 448) : cz_iald (px_set h m M) (some (m + 7)) (Int32.ofNat n) kk = kk (M.2.2.1 21 n) := by
  rw [pl_undone, if_neg (px_in (Nat.lt_of_lt_of_le hn (Nat.le_of_ble_eq_true rfl)) hn), Int32.toNatClampNeg_ofNat_of_lt (Nat.lt_of_lt_of_le hn (Nat.le_of_ble_eq_true rfl))]
theorem ps_undone {i : Int32} {v : Int32} {kk : cz_H → cz_Z} (hb : h.1.1 ≤ m) : cz_iast (px_set h m M) (some (m + 7)) i v kk = if i < 0 ∨ 448 ≤ i.toNatClampNeg then none else kk (px_set h m (px_A M 21 i.toNatClampNeg v)) := by
  unfold cz_iast cz_arr
  dsimp only
  rw [px_at h m M (by decide)]
  show (if 0 = 0 ∧ h.1.1 ≤ m + 7 then (if _ then none else kk (cz_set _ _ _)) else none) = _
  rw [if_pos ⟨rfl, Nat.le_add_right_of_le hb⟩]
  rw [px_put h m M (px_A M 21 i.toNatClampNeg v) (k := 7) (by decide)]
  · simp [px_cell, px_A]
  · intro q hq0 hq
    match q, hq0, hq with
    | 0, _, _ => rfl
    | 1, _, _ => rfl
    | 2, _, _ => rfl
    | 3, _, _ => rfl
    | 4, _, _ => rfl
    | 5, _, _ => rfl
    | 6, _, _ => rfl
    | 7, _, hq => exact absurd rfl hq
    | 8, _, _ => rfl
    | 9, _, _ => rfl
    | 10, _, _ => rfl
    | 11, _, _ => rfl
    | 12, _, _ => rfl
    | 13, _, _ => rfl
    | 14, _, _ => rfl
    | 15, _, _ => rfl
    | q + 16, hq, _ => exact absurd hq (by omega)
theorem psn_undone {n : Nat} {v : Int32} {kk : cz_H → cz_Z} (hn : n < 448) (hb : h.1.1 ≤ m) : cz_iast (px_set h m M) (some (m + 7)) (Int32.ofNat n) v kk = kk (px_set h m (px_A M 21 n v)) := by
  rw [ps_undone hb, if_neg (px_in (Nat.lt_of_lt_of_le hn (Nat.le_of_ble_eq_true rfl)) hn), Int32.toNatClampNeg_ofNat_of_lt (Nat.lt_of_lt_of_le hn (Nat.le_of_ble_eq_true rfl))]
theorem pr_before {kk : Option Nat → cz_Z} : cz_getR (px_set h m M) (some m) [(5, 22)] kk = kk (some (m + 8)) := by
  unfold cz_getR cz_fld
  dsimp only
  rw [px_at0]
  rfl
theorem pl_before {i : Int32} {kk : Int32 → cz_Z} : cz_iald (px_set h m M) (some (m + 8)) i kk = if i < 0 ∨ 56 ≤ i.toNatClampNeg then none else kk (M.2.2.1 22 i.toNatClampNeg) := by
  unfold cz_iald cz_arr
  dsimp only
  rw [px_at h m M (by decide)]
  rfl
theorem pln_before {n : Nat} {kk : Int32 → cz_Z} (hn : n < 56) : cz_iald (px_set h m M) (some (m + 8)) (Int32.ofNat n) kk = kk (M.2.2.1 22 n) := by
  rw [pl_before, if_neg (px_in (Nat.lt_of_lt_of_le hn (Nat.le_of_ble_eq_true rfl)) hn), Int32.toNatClampNeg_ofNat_of_lt (Nat.lt_of_lt_of_le hn (Nat.le_of_ble_eq_true rfl))]
theorem ps_before {i : Int32} {v : Int32} {kk : cz_H → cz_Z} (hb : h.1.1 ≤ m) : cz_iast (px_set h m M) (some (m + 8)) i v kk = if i < 0 ∨ 56 ≤ i.toNatClampNeg then none else kk (px_set h m (px_A M 22 i.toNatClampNeg v)) := by
  unfold cz_iast cz_arr
  dsimp only
  rw [px_at h m M (by decide)]
  show (if 0 = 0 ∧ h.1.1 ≤ m + 8 then (if _ then none else kk (cz_set _ _ _)) else none) = _
  rw [if_pos ⟨rfl, Nat.le_add_right_of_le hb⟩]
  rw [px_put h m M (px_A M 22 i.toNatClampNeg v) (k := 8) (by decide)]
  · simp [px_cell, px_A]
  · intro q hq0 hq
    match q, hq0, hq with
    | 0, _, _ => rfl
    | 1, _, _ => rfl
    | 2, _, _ => rfl
    | 3, _, _ => rfl
    | 4, _, _ => rfl
    | 5, _, _ => rfl
    | 6, _, _ => rfl
    | 7, _, _ => rfl
    | 8, _, hq => exact absurd rfl hq
    | 9, _, _ => rfl
    | 10, _, _ => rfl
    | 11, _, _ => rfl
    | 12, _, _ => rfl
    | 13, _, _ => rfl
    | 14, _, _ => rfl
    | 15, _, _ => rfl
    | q + 16, hq, _ => exact absurd hq (by omega)
theorem psn_before {n : Nat} {v : Int32} {kk : cz_H → cz_Z} (hn : n < 56) (hb : h.1.1 ≤ m) : cz_iast (px_set h m M) (some (m + 8)) (Int32.ofNat n) v kk = kk (px_set h m (px_A M 22 n v)) := by
  rw [ps_before hb, if_neg (px_in (Nat.lt_of_lt_of_le hn (Nat.le_of_ble_eq_true rfl)) hn), Int32.toNatClampNeg_ofNat_of_lt (Nat.lt_of_lt_of_le hn (Nat.le_of_ble_eq_true rfl))]
theorem pr_sat {kk : Option Nat → cz_Z} : cz_getR (px_set h m M) (some m) [(5, 32)] kk = kk (some (m + 9)) := by
  unfold cz_getR cz_fld
  dsimp only
  rw [px_at0]
  rfl
theorem pl_sat {i : Int32} {kk : Int32 → cz_Z} : cz_iald (px_set h m M) (some (m + 9)) i kk = if i < 0 ∨ 6 ≤ i.toNatClampNeg then none else kk (M.2.2.1 32 i.toNatClampNeg) := by
  unfold cz_iald cz_arr
  dsimp only
  rw [px_at h m M (by decide)]
  rfl
theorem pln_sat {n : Nat} {kk : Int32 → cz_Z} (hn : n < 6) : cz_iald (px_set h m M) (some (m + 9)) (Int32.ofNat n) kk = kk (M.2.2.1 32 n) := by
  rw [pl_sat, if_neg (px_in (Nat.lt_of_lt_of_le hn (Nat.le_of_ble_eq_true rfl)) hn), Int32.toNatClampNeg_ofNat_of_lt (Nat.lt_of_lt_of_le hn (Nat.le_of_ble_eq_true rfl))]
theorem ps_sat {i : Int32} {v : Int32} {kk : cz_H → cz_Z} (hb : h.1.1 ≤ m) : cz_iast (px_set h m M) (some (m + 9)) i v kk = if i < 0 ∨ 6 ≤ i.toNatClampNeg then none else kk (px_set h m (px_A M 32 i.toNatClampNeg v)) := by
  unfold cz_iast cz_arr
  dsimp only
  rw [px_at h m M (by decide)]
  show (if 0 = 0 ∧ h.1.1 ≤ m + 9 then (if _ then none else kk (cz_set _ _ _)) else none) = _
  rw [if_pos ⟨rfl, Nat.le_add_right_of_le hb⟩]
  rw [px_put h m M (px_A M 32 i.toNatClampNeg v) (k := 9) (by decide)]
  · simp [px_cell, px_A]
  · intro q hq0 hq
    match q, hq0, hq with
    | 0, _, _ => rfl
    | 1, _, _ => rfl
    | 2, _, _ => rfl
    | 3, _, _ => rfl
    | 4, _, _ => rfl
    | 5, _, _ => rfl
    | 6, _, _ => rfl
    | 7, _, _ => rfl
    | 8, _, _ => rfl
    | 9, _, hq => exact absurd rfl hq
    | 10, _, _ => rfl
    | 11, _, _ => rfl
    | 12, _, _ => rfl
    | 13, _, _ => rfl
    | 14, _, _ => rfl
    | 15, _, _ => rfl
    | q + 16, hq, _ => exact absurd hq (by omega)
theorem psn_sat {n : Nat} {v : Int32} {kk : cz_H → cz_Z} (hn : n < 6) (hb : h.1.1 ≤ m) : cz_iast (px_set h m M) (some (m + 9)) (Int32.ofNat n) v kk = kk (px_set h m (px_A M 32 n v)) := by
  rw [ps_sat hb, if_neg (px_in (Nat.lt_of_lt_of_le hn (Nat.le_of_ble_eq_true rfl)) hn), Int32.toNatClampNeg_ofNat_of_lt (Nat.lt_of_lt_of_le hn (Nat.le_of_ble_eq_true rfl))]
theorem pr_toldAt {kk : Option Nat → cz_Z} : cz_getR (px_set h m M) (some m) [(5, 37)] kk = kk (some (m + 10)) := by
  unfold cz_getR cz_fld
  dsimp only
  rw [px_at0]
  rfl
theorem pl_toldAt {i : Int32} {kk : Int32 → cz_Z} : cz_iald (px_set h m M) (some (m + 10)) i kk = if i < 0 ∨ 4 ≤ i.toNatClampNeg then none else kk (M.2.2.1 37 i.toNatClampNeg) := by
  unfold cz_iald cz_arr
  dsimp only
  rw [px_at h m M (by decide)]
  rfl
theorem pln_toldAt {n : Nat} {kk : Int32 → cz_Z} (hn : n < 4) : cz_iald (px_set h m M) (some (m + 10)) (Int32.ofNat n) kk = kk (M.2.2.1 37 n) := by
  rw [pl_toldAt, if_neg (px_in (Nat.lt_of_lt_of_le hn (Nat.le_of_ble_eq_true rfl)) hn), Int32.toNatClampNeg_ofNat_of_lt (Nat.lt_of_lt_of_le hn (Nat.le_of_ble_eq_true rfl))]
theorem ps_toldAt {i : Int32} {v : Int32} {kk : cz_H → cz_Z} (hb : h.1.1 ≤ m) : cz_iast (px_set h m M) (some (m + 10)) i v kk = if i < 0 ∨ 4 ≤ i.toNatClampNeg then none else kk (px_set h m (px_A M 37 i.toNatClampNeg v)) := by
  unfold cz_iast cz_arr
  dsimp only
  rw [px_at h m M (by decide)]
  show (if 0 = 0 ∧ h.1.1 ≤ m + 10 then (if _ then none else kk (cz_set _ _ _)) else none) = _
  rw [if_pos ⟨rfl, Nat.le_add_right_of_le hb⟩]
  rw [px_put h m M (px_A M 37 i.toNatClampNeg v) (k := 10) (by decide)]
  · simp [px_cell, px_A]
  · intro q hq0 hq
    match q, hq0, hq with
    | 0, _, _ => rfl
    | 1, _, _ => rfl
    | 2, _, _ => rfl
    | 3, _, _ => rfl
    | 4, _, _ => rfl
    | 5, _, _ => rfl
    | 6, _, _ => rfl
    | 7, _, _ => rfl
    | 8, _, _ => rfl
    | 9, _, _ => rfl
    | 10, _, hq => exact absurd rfl hq
    | 11, _, _ => rfl
    | 12, _, _ => rfl
    | 13, _, _ => rfl
    | 14, _, _ => rfl
    | 15, _, _ => rfl
    | q + 16, hq, _ => exact absurd hq (by omega)
theorem psn_toldAt {n : Nat} {v : Int32} {kk : cz_H → cz_Z} (hn : n < 4) (hb : h.1.1 ≤ m) : cz_iast (px_set h m M) (some (m + 10)) (Int32.ofNat n) v kk = kk (px_set h m (px_A M 37 n v)) := by
  rw [ps_toldAt hb, if_neg (px_in (Nat.lt_of_lt_of_le hn (Nat.le_of_ble_eq_true rfl)) hn), Int32.toNatClampNeg_ofNat_of_lt (Nat.lt_of_lt_of_le hn (Nat.le_of_ble_eq_true rfl))]
theorem pr_stack {kk : Option Nat → cz_Z} : cz_getR (px_set h m M) (some m) [(5, 39)] kk = kk (some (m + 11)) := by
  unfold cz_getR cz_fld
  dsimp only
  rw [px_at0]
  rfl
theorem pl_stack {i : Int32} {kk : Int32 → cz_Z} : cz_iald (px_set h m M) (some (m + 11)) i kk = if i < 0 ∨ 45 ≤ i.toNatClampNeg then none else kk (M.2.2.1 39 i.toNatClampNeg) := by
  unfold cz_iald cz_arr
  dsimp only
  rw [px_at h m M (by decide)]
  rfl
theorem pln_stack {n : Nat} {kk : Int32 → cz_Z} (hn : n < 45) : cz_iald (px_set h m M) (some (m + 11)) (Int32.ofNat n) kk = kk (M.2.2.1 39 n) := by
  rw [pl_stack, if_neg (px_in (Nat.lt_of_lt_of_le hn (Nat.le_of_ble_eq_true rfl)) hn), Int32.toNatClampNeg_ofNat_of_lt (Nat.lt_of_lt_of_le hn (Nat.le_of_ble_eq_true rfl))]
theorem ps_stack {i : Int32} {v : Int32} {kk : cz_H → cz_Z} (hb : h.1.1 ≤ m) : cz_iast (px_set h m M) (some (m + 11)) i v kk = if i < 0 ∨ 45 ≤ i.toNatClampNeg then none else kk (px_set h m (px_A M 39 i.toNatClampNeg v)) := by
  unfold cz_iast cz_arr
  dsimp only
  rw [px_at h m M (by decide)]
  show (if 0 = 0 ∧ h.1.1 ≤ m + 11 then (if _ then none else kk (cz_set _ _ _)) else none) = _
  rw [if_pos ⟨rfl, Nat.le_add_right_of_le hb⟩]
  rw [px_put h m M (px_A M 39 i.toNatClampNeg v) (k := 11) (by decide)]
  · simp [px_cell, px_A]
  · intro q hq0 hq
    match q, hq0, hq with
    | 0, _, _ => rfl
    | 1, _, _ => rfl
    | 2, _, _ => rfl
    | 3, _, _ => rfl
    | 4, _, _ => rfl
    | 5, _, _ => rfl
    | 6, _, _ => rfl
    | 7, _, _ => rfl
    | 8, _, _ => rfl
    | 9, _, _ => rfl
    | 10, _, _ => rfl
    | 11, _, hq => exact absurd rfl hq
    | 12, _, _ => rfl
    | 13, _, _ => rfl
    | 14, _, _ => rfl
    | 15, _, _ => rfl
    | q + 16, hq, _ => exact absurd hq (by omega)
theorem psn_stack {n : Nat} {v : Int32} {kk : cz_H → cz_Z} (hn : n < 45) (hb : h.1.1 ≤ m) : cz_iast (px_set h m M) (some (m + 11)) (Int32.ofNat n) v kk = kk (px_set h m (px_A M 39 n v)) := by
  rw [ps_stack hb, if_neg (px_in (Nat.lt_of_lt_of_le hn (Nat.le_of_ble_eq_true rfl)) hn), Int32.toNatClampNeg_ofNat_of_lt (Nat.lt_of_lt_of_le hn (Nat.le_of_ble_eq_true rfl))]
theorem pr_truths {kk : Option Nat → cz_Z} : cz_getR (px_set h m M) (some m) [(5, 45)] kk = kk (some (m + 12)) := by
  unfold cz_getR cz_fld
  dsimp only
  rw [px_at0]
  rfl
theorem pl_truths {i : Int32} {kk : Int32 → cz_Z} : cz_bald (px_set h m M) (some (m + 12)) i kk = if i < 0 ∨ 45 ≤ i.toNatClampNeg then none else kk (M.2.2.1 45 i.toNatClampNeg) := by
  unfold cz_bald cz_arr
  dsimp only
  rw [px_at h m M (by decide)]
  rfl
theorem pln_truths {n : Nat} {kk : Int32 → cz_Z} (hn : n < 45) : cz_bald (px_set h m M) (some (m + 12)) (Int32.ofNat n) kk = kk (M.2.2.1 45 n) := by
  rw [pl_truths, if_neg (px_in (Nat.lt_of_lt_of_le hn (Nat.le_of_ble_eq_true rfl)) hn), Int32.toNatClampNeg_ofNat_of_lt (Nat.lt_of_lt_of_le hn (Nat.le_of_ble_eq_true rfl))]
theorem ps_truths {i : Int32} {v : Int32} {kk : cz_H → cz_Z} (hv : v = 0 ∨ v = 1) (hb : h.1.1 ≤ m) : cz_bast (px_set h m M) (some (m + 12)) i v kk = if i < 0 ∨ 45 ≤ i.toNatClampNeg then none else kk (px_set h m (px_A M 45 i.toNatClampNeg v)) := by
  unfold cz_bast cz_arr
  dsimp only
  rw [px_at h m M (by decide)]
  show (if 2 = 1 ∧ h.1.1 ≤ m + 12 then _ else if (2 = 2 ∧ h.1.1 ≤ m + 12) ∧ (v = 0 ∨ v = 1) then (if _ then none else kk (cz_set _ _ _)) else none) = _
  rw [if_neg (fun q => by cases q.1), if_pos ⟨⟨rfl, Nat.le_add_right_of_le hb⟩, hv⟩]
  rw [px_put h m M (px_A M 45 i.toNatClampNeg v) (k := 12) (by decide)]
  · simp [px_cell, px_A]
  · intro q hq0 hq
    match q, hq0, hq with
    | 0, _, _ => rfl
    | 1, _, _ => rfl
    | 2, _, _ => rfl
    | 3, _, _ => rfl
    | 4, _, _ => rfl
    | 5, _, _ => rfl
    | 6, _, _ => rfl
    | 7, _, _ => rfl
    | 8, _, _ => rfl
    | 9, _, _ => rfl
    | 10, _, _ => rfl
    | 11, _, _ => rfl
    | 12, _, hq => exact absurd rfl hq
    | 13, _, _ => rfl
    | 14, _, _ => rfl
    | 15, _, _ => rfl
    | q + 16, hq, _ => exact absurd hq (by omega)
theorem psn_truths {n : Nat} {v : Int32} {kk : cz_H → cz_Z} (hv : v = 0 ∨ v = 1) (hn : n < 45) (hb : h.1.1 ≤ m) : cz_bast (px_set h m M) (some (m + 12)) (Int32.ofNat n) v kk = kk (px_set h m (px_A M 45 n v)) := by
  rw [ps_truths hv hb, if_neg (px_in (Nat.lt_of_lt_of_le hn (Nat.le_of_ble_eq_true rfl)) hn), Int32.toNatClampNeg_ofNat_of_lt (Nat.lt_of_lt_of_le hn (Nat.le_of_ble_eq_true rfl))]
theorem pr_kept {kk : Option Nat → cz_Z} : cz_getR (px_set h m M) (some m) [(5, 46)] kk = kk (some (m + 13)) := by
  unfold cz_getR cz_fld
  dsimp only
  rw [px_at0]
  rfl
theorem pl_kept {i : Int32} {kk : Int32 → cz_Z} : cz_iald (px_set h m M) (some (m + 13)) i kk = if i < 0 ∨ 598 ≤ i.toNatClampNeg then none else kk (M.2.2.1 46 i.toNatClampNeg) := by
  unfold cz_iald cz_arr
  dsimp only
  rw [px_at h m M (by decide)]
  rfl
theorem pln_kept {n : Nat} {kk : Int32 → cz_Z} (hn : n < 598) : cz_iald (px_set h m M) (some (m + 13)) (Int32.ofNat n) kk = kk (M.2.2.1 46 n) := by
  rw [pl_kept, if_neg (px_in (Nat.lt_of_lt_of_le hn (Nat.le_of_ble_eq_true rfl)) hn), Int32.toNatClampNeg_ofNat_of_lt (Nat.lt_of_lt_of_le hn (Nat.le_of_ble_eq_true rfl))]
theorem ps_kept {i : Int32} {v : Int32} {kk : cz_H → cz_Z} (hb : h.1.1 ≤ m) : cz_iast (px_set h m M) (some (m + 13)) i v kk = if i < 0 ∨ 598 ≤ i.toNatClampNeg then none else kk (px_set h m (px_A M 46 i.toNatClampNeg v)) := by
  unfold cz_iast cz_arr
  dsimp only
  rw [px_at h m M (by decide)]
  show (if 0 = 0 ∧ h.1.1 ≤ m + 13 then (if _ then none else kk (cz_set _ _ _)) else none) = _
  rw [if_pos ⟨rfl, Nat.le_add_right_of_le hb⟩]
  rw [px_put h m M (px_A M 46 i.toNatClampNeg v) (k := 13) (by decide)]
  · simp [px_cell, px_A]
  · intro q hq0 hq
    match q, hq0, hq with
    | 0, _, _ => rfl
    | 1, _, _ => rfl
    | 2, _, _ => rfl
    | 3, _, _ => rfl
    | 4, _, _ => rfl
    | 5, _, _ => rfl
    | 6, _, _ => rfl
    | 7, _, _ => rfl
    | 8, _, _ => rfl
    | 9, _, _ => rfl
    | 10, _, _ => rfl
    | 11, _, _ => rfl
    | 12, _, _ => rfl
    | 13, _, hq => exact absurd rfl hq
    | 14, _, _ => rfl
    | 15, _, _ => rfl
    | q + 16, hq, _ => exact absurd hq (by omega)
theorem psn_kept {n : Nat} {v : Int32} {kk : cz_H → cz_Z} (hn : n < 598) (hb : h.1.1 ≤ m) : cz_iast (px_set h m M) (some (m + 13)) (Int32.ofNat n) v kk = kk (px_set h m (px_A M 46 n v)) := by
  rw [ps_kept hb, if_neg (px_in (Nat.lt_of_lt_of_le hn (Nat.le_of_ble_eq_true rfl)) hn), Int32.toNatClampNeg_ofNat_of_lt (Nat.lt_of_lt_of_le hn (Nat.le_of_ble_eq_true rfl))]
theorem pr_namesKept {kk : Option Nat → cz_Z} : cz_getR (px_set h m M) (some m) [(5, 47)] kk = kk (some (m + 14)) := by
  unfold cz_getR cz_fld
  dsimp only
  rw [px_at0]
  rfl
theorem pl_namesKept {i : Int32} {kk : Int64 → cz_Z} : cz_lald (px_set h m M) (some (m + 14)) i kk = if i < 0 ∨ 44 ≤ i.toNatClampNeg then none else kk (M.2.2.2 47 i.toNatClampNeg) := by
  unfold cz_lald cz_arr
  dsimp only
  rw [px_at h m M (by decide)]
  rfl
theorem pln_namesKept {n : Nat} {kk : Int64 → cz_Z} (hn : n < 44) : cz_lald (px_set h m M) (some (m + 14)) (Int32.ofNat n) kk = kk (M.2.2.2 47 n) := by
  rw [pl_namesKept, if_neg (px_in (Nat.lt_of_lt_of_le hn (Nat.le_of_ble_eq_true rfl)) hn), Int32.toNatClampNeg_ofNat_of_lt (Nat.lt_of_lt_of_le hn (Nat.le_of_ble_eq_true rfl))]
theorem ps_namesKept {i : Int32} {v : Int64} {kk : cz_H → cz_Z} (hb : h.1.1 ≤ m) : cz_last (px_set h m M) (some (m + 14)) i v kk = if i < 0 ∨ 44 ≤ i.toNatClampNeg then none else kk (px_set h m (px_L M 47 i.toNatClampNeg v)) := by
  unfold cz_last cz_arr
  dsimp only
  rw [px_at h m M (by decide)]
  show (if 3 = 3 ∧ h.1.1 ≤ m + 14 then (if _ then none else kk (cz_set _ _ _)) else none) = _
  rw [if_pos ⟨rfl, Nat.le_add_right_of_le hb⟩]
  rw [px_put h m M (px_L M 47 i.toNatClampNeg v) (k := 14) (by decide)]
  · simp [px_cell, px_L]
  · intro q hq0 hq
    match q, hq0, hq with
    | 0, _, _ => rfl
    | 1, _, _ => rfl
    | 2, _, _ => rfl
    | 3, _, _ => rfl
    | 4, _, _ => rfl
    | 5, _, _ => rfl
    | 6, _, _ => rfl
    | 7, _, _ => rfl
    | 8, _, _ => rfl
    | 9, _, _ => rfl
    | 10, _, _ => rfl
    | 11, _, _ => rfl
    | 12, _, _ => rfl
    | 13, _, _ => rfl
    | 14, _, hq => exact absurd rfl hq
    | 15, _, _ => rfl
    | q + 16, hq, _ => exact absurd hq (by omega)
theorem psn_namesKept {n : Nat} {v : Int64} {kk : cz_H → cz_Z} (hn : n < 44) (hb : h.1.1 ≤ m) : cz_last (px_set h m M) (some (m + 14)) (Int32.ofNat n) v kk = kk (px_set h m (px_L M 47 n v)) := by
  rw [ps_namesKept hb, if_neg (px_in (Nat.lt_of_lt_of_le hn (Nat.le_of_ble_eq_true rfl)) hn), Int32.toNatClampNeg_ofNat_of_lt (Nat.lt_of_lt_of_le hn (Nat.le_of_ble_eq_true rfl))]
theorem pr_areKept {kk : Option Nat → cz_Z} : cz_getR (px_set h m M) (some m) [(5, 48)] kk = kk (some (m + 15)) := by
  unfold cz_getR cz_fld
  dsimp only
  rw [px_at0]
  rfl
theorem pl_areKept {i : Int32} {kk : Int32 → cz_Z} : cz_bald (px_set h m M) (some (m + 15)) i kk = if i < 0 ∨ 2 ≤ i.toNatClampNeg then none else kk (M.2.2.1 48 i.toNatClampNeg) := by
  unfold cz_bald cz_arr
  dsimp only
  rw [px_at h m M (by decide)]
  rfl
theorem pln_areKept {n : Nat} {kk : Int32 → cz_Z} (hn : n < 2) : cz_bald (px_set h m M) (some (m + 15)) (Int32.ofNat n) kk = kk (M.2.2.1 48 n) := by
  rw [pl_areKept, if_neg (px_in (Nat.lt_of_lt_of_le hn (Nat.le_of_ble_eq_true rfl)) hn), Int32.toNatClampNeg_ofNat_of_lt (Nat.lt_of_lt_of_le hn (Nat.le_of_ble_eq_true rfl))]
theorem ps_areKept {i : Int32} {v : Int32} {kk : cz_H → cz_Z} (hv : v = 0 ∨ v = 1) (hb : h.1.1 ≤ m) : cz_bast (px_set h m M) (some (m + 15)) i v kk = if i < 0 ∨ 2 ≤ i.toNatClampNeg then none else kk (px_set h m (px_A M 48 i.toNatClampNeg v)) := by
  unfold cz_bast cz_arr
  dsimp only
  rw [px_at h m M (by decide)]
  show (if 2 = 1 ∧ h.1.1 ≤ m + 15 then _ else if (2 = 2 ∧ h.1.1 ≤ m + 15) ∧ (v = 0 ∨ v = 1) then (if _ then none else kk (cz_set _ _ _)) else none) = _
  rw [if_neg (fun q => by cases q.1), if_pos ⟨⟨rfl, Nat.le_add_right_of_le hb⟩, hv⟩]
  rw [px_put h m M (px_A M 48 i.toNatClampNeg v) (k := 15) (by decide)]
  · simp [px_cell, px_A]
  · intro q hq0 hq
    match q, hq0, hq with
    | 0, _, _ => rfl
    | 1, _, _ => rfl
    | 2, _, _ => rfl
    | 3, _, _ => rfl
    | 4, _, _ => rfl
    | 5, _, _ => rfl
    | 6, _, _ => rfl
    | 7, _, _ => rfl
    | 8, _, _ => rfl
    | 9, _, _ => rfl
    | 10, _, _ => rfl
    | 11, _, _ => rfl
    | 12, _, _ => rfl
    | 13, _, _ => rfl
    | 14, _, _ => rfl
    | 15, _, hq => exact absurd rfl hq
    | q + 16, hq, _ => exact absurd hq (by omega)
theorem psn_areKept {n : Nat} {v : Int32} {kk : cz_H → cz_Z} (hv : v = 0 ∨ v = 1) (hn : n < 2) (hb : h.1.1 ≤ m) : cz_bast (px_set h m M) (some (m + 15)) (Int32.ofNat n) v kk = kk (px_set h m (px_A M 48 n v)) := by
  rw [ps_areKept hv hb, if_neg (px_in (Nat.lt_of_lt_of_le hn (Nat.le_of_ble_eq_true rfl)) hn), Int32.toNatClampNeg_ofNat_of_lt (Nat.lt_of_lt_of_le hn (Nat.le_of_ble_eq_true rfl))]
theorem pl_s_0 {kk : Int32 → cz_Z} : cz_iald (px_set h m M) (some (m + 2)) 0 kk = kk (M.2.2.1 6 0) := pln_s (n := 0) (by decide)
theorem pl_s_1 {kk : Int32 → cz_Z} : cz_iald (px_set h m M) (some (m + 2)) 1 kk = kk (M.2.2.1 6 1) := pln_s (n := 1) (by decide)
theorem pl_s_2 {kk : Int32 → cz_Z} : cz_iald (px_set h m M) (some (m + 2)) 2 kk = kk (M.2.2.1 6 2) := pln_s (n := 2) (by decide)
theorem pl_s_3 {kk : Int32 → cz_Z} : cz_iald (px_set h m M) (some (m + 2)) 3 kk = kk (M.2.2.1 6 3) := pln_s (n := 3) (by decide)
theorem pl_s_4 {kk : Int32 → cz_Z} : cz_iald (px_set h m M) (some (m + 2)) 4 kk = kk (M.2.2.1 6 4) := pln_s (n := 4) (by decide)
theorem pl_s_5 {kk : Int32 → cz_Z} : cz_iald (px_set h m M) (some (m + 2)) 5 kk = kk (M.2.2.1 6 5) := pln_s (n := 5) (by decide)
theorem pl_s_6 {kk : Int32 → cz_Z} : cz_iald (px_set h m M) (some (m + 2)) 6 kk = kk (M.2.2.1 6 6) := pln_s (n := 6) (by decide)
theorem pl_s_7 {kk : Int32 → cz_Z} : cz_iald (px_set h m M) (some (m + 2)) 7 kk = kk (M.2.2.1 6 7) := pln_s (n := 7) (by decide)
theorem pl_s_62 {kk : Int32 → cz_Z} : cz_iald (px_set h m M) (some (m + 2)) 62 kk = kk (M.2.2.1 6 62) := pln_s (n := 62) (by decide)
theorem ps_s_62 {v : Int32} {kk : cz_H → cz_Z} (hb : h.1.1 ≤ m) : cz_iast (px_set h m M) (some (m + 2)) 62 v kk = kk (px_set h m (px_A M 6 62 v)) := psn_s (n := 62) (by decide) hb
theorem pl_s_63 {kk : Int32 → cz_Z} : cz_iald (px_set h m M) (some (m + 2)) 63 kk = kk (M.2.2.1 6 63) := pln_s (n := 63) (by decide)
theorem ps_s_63 {v : Int32} {kk : cz_H → cz_Z} (hb : h.1.1 ≤ m) : cz_iast (px_set h m M) (some (m + 2)) 63 v kk = kk (px_set h m (px_A M 6 63 v)) := psn_s (n := 63) (by decide) hb
theorem pl_s_64 {kk : Int32 → cz_Z} : cz_iald (px_set h m M) (some (m + 2)) 64 kk = kk (M.2.2.1 6 64) := pln_s (n := 64) (by decide)
theorem ps_s_64 {v : Int32} {kk : cz_H → cz_Z} (hb : h.1.1 ≤ m) : cz_iast (px_set h m M) (some (m + 2)) 64 v kk = kk (px_set h m (px_A M 6 64 v)) := psn_s (n := 64) (by decide) hb
theorem pl_s_117 {kk : Int32 → cz_Z} : cz_iald (px_set h m M) (some (m + 2)) 117 kk = kk (M.2.2.1 6 117) := pln_s (n := 117) (by decide)
theorem ps_s_117 {v : Int32} {kk : cz_H → cz_Z} (hb : h.1.1 ≤ m) : cz_iast (px_set h m M) (some (m + 2)) 117 v kk = kk (px_set h m (px_A M 6 117 v)) := psn_s (n := 117) (by decide) hb
theorem pl_s_118 {kk : Int32 → cz_Z} : cz_iald (px_set h m M) (some (m + 2)) 118 kk = kk (M.2.2.1 6 118) := pln_s (n := 118) (by decide)
theorem ps_s_118 {v : Int32} {kk : cz_H → cz_Z} (hb : h.1.1 ≤ m) : cz_iast (px_set h m M) (some (m + 2)) 118 v kk = kk (px_set h m (px_A M 6 118 v)) := psn_s (n := 118) (by decide) hb
theorem pl_h_0 {kk : Int32 → cz_Z} : cz_iald (px_set h m M) (some (m + 3)) 0 kk = kk (M.2.2.1 7 0) := pln_h (n := 0) (by decide)
theorem ps_h_0 {v : Int32} {kk : cz_H → cz_Z} (hb : h.1.1 ≤ m) : cz_iast (px_set h m M) (some (m + 3)) 0 v kk = kk (px_set h m (px_A M 7 0 v)) := psn_h (n := 0) (by decide) hb
theorem pl_h_1 {kk : Int32 → cz_Z} : cz_iald (px_set h m M) (some (m + 3)) 1 kk = kk (M.2.2.1 7 1) := pln_h (n := 1) (by decide)
theorem ps_h_1 {v : Int32} {kk : cz_H → cz_Z} (hb : h.1.1 ≤ m) : cz_iast (px_set h m M) (some (m + 3)) 1 v kk = kk (px_set h m (px_A M 7 1 v)) := psn_h (n := 1) (by decide) hb
theorem pl_h_2 {kk : Int32 → cz_Z} : cz_iald (px_set h m M) (some (m + 3)) 2 kk = kk (M.2.2.1 7 2) := pln_h (n := 2) (by decide)
theorem ps_h_2 {v : Int32} {kk : cz_H → cz_Z} (hb : h.1.1 ≤ m) : cz_iast (px_set h m M) (some (m + 3)) 2 v kk = kk (px_set h m (px_A M 7 2 v)) := psn_h (n := 2) (by decide) hb
theorem ps_h_4 {v : Int32} {kk : cz_H → cz_Z} (hb : h.1.1 ≤ m) : cz_iast (px_set h m M) (some (m + 3)) 4 v kk = kk (px_set h m (px_A M 7 4 v)) := psn_h (n := 4) (by decide) hb
theorem ps_h_5 {v : Int32} {kk : cz_H → cz_Z} (hb : h.1.1 ≤ m) : cz_iast (px_set h m M) (some (m + 3)) 5 v kk = kk (px_set h m (px_A M 7 5 v)) := psn_h (n := 5) (by decide) hb
theorem ps_h_6 {v : Int32} {kk : cz_H → cz_Z} (hb : h.1.1 ≤ m) : cz_iast (px_set h m M) (some (m + 3)) 6 v kk = kk (px_set h m (px_A M 7 6 v)) := psn_h (n := 6) (by decide) hb
theorem pl_h_7 {kk : Int32 → cz_Z} : cz_iald (px_set h m M) (some (m + 3)) 7 kk = kk (M.2.2.1 7 7) := pln_h (n := 7) (by decide)
theorem ps_h_7 {v : Int32} {kk : cz_H → cz_Z} (hb : h.1.1 ≤ m) : cz_iast (px_set h m M) (some (m + 3)) 7 v kk = kk (px_set h m (px_A M 7 7 v)) := psn_h (n := 7) (by decide) hb
theorem ps_reserved_0 {v : Int64} {kk : cz_H → cz_Z} (hb : h.1.1 ≤ m) : cz_last (px_set h m M) (some (m + 6)) 0 v kk = kk (px_set h m (px_L M 10 0 v)) := psn_reserved (n := 0) (by decide) hb
theorem ps_reserved_1 {v : Int64} {kk : cz_H → cz_Z} (hb : h.1.1 ≤ m) : cz_last (px_set h m M) (some (m + 6)) 1 v kk = kk (px_set h m (px_L M 10 1 v)) := psn_reserved (n := 1) (by decide) hb
theorem ps_reserved_2 {v : Int64} {kk : cz_H → cz_Z} (hb : h.1.1 ≤ m) : cz_last (px_set h m M) (some (m + 6)) 2 v kk = kk (px_set h m (px_L M 10 2 v)) := psn_reserved (n := 2) (by decide) hb
theorem ps_reserved_3 {v : Int64} {kk : cz_H → cz_Z} (hb : h.1.1 ≤ m) : cz_last (px_set h m M) (some (m + 6)) 3 v kk = kk (px_set h m (px_L M 10 3 v)) := psn_reserved (n := 3) (by decide) hb
theorem ps_reserved_4 {v : Int64} {kk : cz_H → cz_Z} (hb : h.1.1 ≤ m) : cz_last (px_set h m M) (some (m + 6)) 4 v kk = kk (px_set h m (px_L M 10 4 v)) := psn_reserved (n := 4) (by decide) hb
theorem ps_reserved_5 {v : Int64} {kk : cz_H → cz_Z} (hb : h.1.1 ≤ m) : cz_last (px_set h m M) (some (m + 6)) 5 v kk = kk (px_set h m (px_L M 10 5 v)) := psn_reserved (n := 5) (by decide) hb
theorem ps_reserved_6 {v : Int64} {kk : cz_H → cz_Z} (hb : h.1.1 ≤ m) : cz_last (px_set h m M) (some (m + 6)) 6 v kk = kk (px_set h m (px_L M 10 6 v)) := psn_reserved (n := 6) (by decide) hb
theorem ps_reserved_7 {v : Int64} {kk : cz_H → cz_Z} (hb : h.1.1 ≤ m) : cz_last (px_set h m M) (some (m + 6)) 7 v kk = kk (px_set h m (px_L M 10 7 v)) := psn_reserved (n := 7) (by decide) hb
theorem ps_reserved_8 {v : Int64} {kk : cz_H → cz_Z} (hb : h.1.1 ≤ m) : cz_last (px_set h m M) (some (m + 6)) 8 v kk = kk (px_set h m (px_L M 10 8 v)) := psn_reserved (n := 8) (by decide) hb
theorem ps_reserved_9 {v : Int64} {kk : cz_H → cz_Z} (hb : h.1.1 ≤ m) : cz_last (px_set h m M) (some (m + 6)) 9 v kk = kk (px_set h m (px_L M 10 9 v)) := psn_reserved (n := 9) (by decide) hb
theorem ps_reserved_10 {v : Int64} {kk : cz_H → cz_Z} (hb : h.1.1 ≤ m) : cz_last (px_set h m M) (some (m + 6)) 10 v kk = kk (px_set h m (px_L M 10 10 v)) := psn_reserved (n := 10) (by decide) hb
theorem ps_reserved_11 {v : Int64} {kk : cz_H → cz_Z} (hb : h.1.1 ≤ m) : cz_last (px_set h m M) (some (m + 6)) 11 v kk = kk (px_set h m (px_L M 10 11 v)) := psn_reserved (n := 11) (by decide) hb
theorem ps_reserved_12 {v : Int64} {kk : cz_H → cz_Z} (hb : h.1.1 ≤ m) : cz_last (px_set h m M) (some (m + 6)) 12 v kk = kk (px_set h m (px_L M 10 12 v)) := psn_reserved (n := 12) (by decide) hb
theorem ps_reserved_13 {v : Int64} {kk : cz_H → cz_Z} (hb : h.1.1 ≤ m) : cz_last (px_set h m M) (some (m + 6)) 13 v kk = kk (px_set h m (px_L M 10 13 v)) := psn_reserved (n := 13) (by decide) hb
theorem ps_reserved_14 {v : Int64} {kk : cz_H → cz_Z} (hb : h.1.1 ≤ m) : cz_last (px_set h m M) (some (m + 6)) 14 v kk = kk (px_set h m (px_L M 10 14 v)) := psn_reserved (n := 14) (by decide) hb
theorem ps_reserved_15 {v : Int64} {kk : cz_H → cz_Z} (hb : h.1.1 ≤ m) : cz_last (px_set h m M) (some (m + 6)) 15 v kk = kk (px_set h m (px_L M 10 15 v)) := psn_reserved (n := 15) (by decide) hb
theorem ps_reserved_16 {v : Int64} {kk : cz_H → cz_Z} (hb : h.1.1 ≤ m) : cz_last (px_set h m M) (some (m + 6)) 16 v kk = kk (px_set h m (px_L M 10 16 v)) := psn_reserved (n := 16) (by decide) hb
theorem ps_reserved_17 {v : Int64} {kk : cz_H → cz_Z} (hb : h.1.1 ≤ m) : cz_last (px_set h m M) (some (m + 6)) 17 v kk = kk (px_set h m (px_L M 10 17 v)) := psn_reserved (n := 17) (by decide) hb
theorem ps_reserved_18 {v : Int64} {kk : cz_H → cz_Z} (hb : h.1.1 ≤ m) : cz_last (px_set h m M) (some (m + 6)) 18 v kk = kk (px_set h m (px_L M 10 18 v)) := psn_reserved (n := 18) (by decide) hb
theorem ps_reserved_19 {v : Int64} {kk : cz_H → cz_Z} (hb : h.1.1 ≤ m) : cz_last (px_set h m M) (some (m + 6)) 19 v kk = kk (px_set h m (px_L M 10 19 v)) := psn_reserved (n := 19) (by decide) hb
theorem ps_reserved_20 {v : Int64} {kk : cz_H → cz_Z} (hb : h.1.1 ≤ m) : cz_last (px_set h m M) (some (m + 6)) 20 v kk = kk (px_set h m (px_L M 10 20 v)) := psn_reserved (n := 20) (by decide) hb
theorem ps_reserved_21 {v : Int64} {kk : cz_H → cz_Z} (hb : h.1.1 ≤ m) : cz_last (px_set h m M) (some (m + 6)) 21 v kk = kk (px_set h m (px_L M 10 21 v)) := psn_reserved (n := 21) (by decide) hb
theorem ps_reserved_22 {v : Int64} {kk : cz_H → cz_Z} (hb : h.1.1 ≤ m) : cz_last (px_set h m M) (some (m + 6)) 22 v kk = kk (px_set h m (px_L M 10 22 v)) := psn_reserved (n := 22) (by decide) hb
theorem ps_reserved_23 {v : Int64} {kk : cz_H → cz_Z} (hb : h.1.1 ≤ m) : cz_last (px_set h m M) (some (m + 6)) 23 v kk = kk (px_set h m (px_L M 10 23 v)) := psn_reserved (n := 23) (by decide) hb
theorem pl_toldAt_0 {kk : Int32 → cz_Z} : cz_iald (px_set h m M) (some (m + 10)) 0 kk = kk (M.2.2.1 37 0) := pln_toldAt (n := 0) (by decide)
theorem ps_toldAt_0 {v : Int32} {kk : cz_H → cz_Z} (hb : h.1.1 ≤ m) : cz_iast (px_set h m M) (some (m + 10)) 0 v kk = kk (px_set h m (px_A M 37 0 v)) := psn_toldAt (n := 0) (by decide) hb
theorem pl_toldAt_1 {kk : Int32 → cz_Z} : cz_iald (px_set h m M) (some (m + 10)) 1 kk = kk (M.2.2.1 37 1) := pln_toldAt (n := 1) (by decide)
theorem ps_toldAt_1 {v : Int32} {kk : cz_H → cz_Z} (hb : h.1.1 ≤ m) : cz_iast (px_set h m M) (some (m + 10)) 1 v kk = kk (px_set h m (px_A M 37 1 v)) := psn_toldAt (n := 1) (by decide) hb
theorem ps_toldAt_2 {v : Int32} {kk : cz_H → cz_Z} (hb : h.1.1 ≤ m) : cz_iast (px_set h m M) (some (m + 10)) 2 v kk = kk (px_set h m (px_A M 37 2 v)) := psn_toldAt (n := 2) (by decide) hb
theorem ps_toldAt_3 {v : Int32} {kk : cz_H → cz_Z} (hb : h.1.1 ≤ m) : cz_iast (px_set h m M) (some (m + 10)) 3 v kk = kk (px_set h m (px_A M 37 3 v)) := psn_toldAt (n := 3) (by decide) hb
theorem pl_truths_0 {kk : Int32 → cz_Z} : cz_bald (px_set h m M) (some (m + 12)) 0 kk = kk (M.2.2.1 45 0) := pln_truths (n := 0) (by decide)
end PXA
theorem px_c8 (n : Nat) : 8 + Int32.ofNat n = Int32.ofNat (8 + n) := (Int32.ofNat_add 8 n).symm
theorem px_c10 (n : Nat) : 10 + Int32.ofNat n = Int32.ofNat (10 + n) := (Int32.ofNat_add 10 n).symm
theorem px_c16 (n : Nat) : 16 + Int32.ofNat n = Int32.ofNat (16 + n) := (Int32.ofNat_add 16 n).symm
theorem px_c20 (n : Nat) : 20 + Int32.ofNat n = Int32.ofNat (20 + n) := (Int32.ofNat_add 20 n).symm
theorem px_c22 (n : Nat) : 22 + Int32.ofNat n = Int32.ofNat (22 + n) := (Int32.ofNat_add 22 n).symm
theorem px_c30 (n : Nat) : 30 + Int32.ofNat n = Int32.ofNat (30 + n) := (Int32.ofNat_add 30 n).symm
theorem px_c36 (n : Nat) : 36 + Int32.ofNat n = Int32.ofNat (36 + n) := (Int32.ofNat_add 36 n).symm
theorem px_c38 (n : Nat) : 38 + Int32.ofNat n = Int32.ofNat (38 + n) := (Int32.ofNat_add 38 n).symm
theorem px_c46 (n : Nat) : 46 + Int32.ofNat n = Int32.ofNat (46 + n) := (Int32.ofNat_add 46 n).symm
theorem px_c54 (n : Nat) : 54 + Int32.ofNat n = Int32.ofNat (54 + n) := (Int32.ofNat_add 54 n).symm
theorem px_c62 (n : Nat) : 62 + Int32.ofNat n = Int32.ofNat (62 + n) := (Int32.ofNat_add 62 n).symm
theorem px_c65 (n : Nat) : 65 + Int32.ofNat n = Int32.ofNat (65 + n) := (Int32.ofNat_add 65 n).symm
theorem px_c73 (n : Nat) : 73 + Int32.ofNat n = Int32.ofNat (73 + n) := (Int32.ofNat_add 73 n).symm
theorem px_c81 (n : Nat) : 81 + Int32.ofNat n = Int32.ofNat (81 + n) := (Int32.ofNat_add 81 n).symm
theorem px_c89 (n : Nat) : 89 + Int32.ofNat n = Int32.ofNat (89 + n) := (Int32.ofNat_add 89 n).symm
theorem px_c97 (n : Nat) : 97 + Int32.ofNat n = Int32.ofNat (97 + n) := (Int32.ofNat_add 97 n).symm
theorem px_c103 (n : Nat) : 103 + Int32.ofNat n = Int32.ofNat (103 + n) := (Int32.ofNat_add 103 n).symm
theorem px_c109 (n : Nat) : 109 + Int32.ofNat n = Int32.ofNat (109 + n) := (Int32.ofNat_add 109 n).symm
theorem px_c119 (n : Nat) : 119 + Int32.ofNat n = Int32.ofNat (119 + n) := (Int32.ofNat_add 119 n).symm
theorem px_c1r (n : Nat) : Int32.ofNat n + 1 = Int32.ofNat (n + 1) := (Int32.ofNat_add n 1).symm
theorem px_rc {h : cz_H} {m : Nat} {M : px_M} {z : cz_Z} : cz_rc (px_set h m M) (some m) [5] z = z := by
  unfold cz_rc
  dsimp only
  rw [px_at0]
  rfl
theorem px_cI {h : cz_H} {x : Int32} {kk : Int32 → cz_H → cz_Z} : cz_cI (some (.inl (some (cz_i x)), h)) kk = kk x h := rfl
theorem px_cR {h : cz_H} {x : Option Nat} {kk : Option Nat → cz_H → cz_Z} : cz_cR (some (.inl (some (cz_r x)), h)) kk = kk x h := rfl
theorem px_cV {h : cz_H} {kk : cz_H → cz_Z} : cz_cV (some (.inl none, h)) kk = kk h := rfl
theorem px_ckz {p : Prop} [Decidable p] {z : cz_Z} : cz_ckz (if p then 1 else 0) z = z := by
  unfold cz_ckz
  by_cases q : p <;> simp [q]
theorem px_ckz0 {z : cz_Z} : cz_ckz 0 z = z := rfl
theorem px_ckz1 {z : cz_Z} : cz_ckz 1 z = z := rfl
def px_S (M : px_M) (s : Nat → Int32) : px_M := (M.1, M.2.1, fun q => if q = 6 then s else M.2.2.1 q, M.2.2.2)
theorem px_Sid (M : px_M) : px_S M (M.2.2.1 6) = M := by
  unfold px_S
  refine Prod.ext rfl (Prod.ext rfl (Prod.ext ?_ rfl))
  funext q
  dsimp only
  split
  · rename_i e; rw [e]
  · rfl
section PXS
variable {h : cz_H} {m : Nat} {M : px_M} {s t : Nat → Int32}
theorem px_SA {n : Nat} {v : Int32} : px_A (px_S M s) 6 n v = px_S M (upd s n v) := by
  unfold px_A px_S
  refine Prod.ext rfl (Prod.ext rfl (Prod.ext ?_ rfl))
  funext q
  dsimp only
  split
  · rfl
  · rfl
theorem px_SAne {j n : Nat} {v : Int32} (hj : j ≠ 6) : px_A (px_S M s) j n v = px_S (px_A M j n v) s := by
  unfold px_A px_S
  refine Prod.ext rfl (Prod.ext rfl (Prod.ext ?_ rfl))
  funext q
  dsimp only
  by_cases e : q = j
  · rw [if_pos e, e, if_neg hj, if_neg hj, if_pos rfl]
  · rw [if_neg e, if_neg e]
theorem px_SL {j n : Nat} {v : Int64} : px_L (px_S M s) j n v = px_S (px_L M j n v) s := rfl
theorem px_SI {j : Nat} {v : Int32} : px_I (px_S M s) j v = px_S (px_I M j v) s := rfl
theorem px_SW {v : Int64} : px_W (px_S M s) v = px_S (px_W M v) s := rfl
theorem px_SS : px_S (px_S M s) t = px_S M t := by
  unfold px_S
  refine Prod.ext rfl (Prod.ext rfl (Prod.ext ?_ rfl))
  funext q
  dsimp only
  split
  · rfl
  · rfl
theorem px_S1 : (px_S M s).1 = M.1 := by
  unfold px_S
  rfl
theorem px_S2 : (px_S M s).2.1 = M.2.1 := by
  unfold px_S
  rfl
theorem px_S4 : (px_S M s).2.2.2 = M.2.2.2 := by
  unfold px_S
  rfl
theorem px_S3 {j : Nat} (hj : j ≠ 6) : (px_S M s).2.2.1 j = M.2.2.1 j := if_neg hj
theorem px_S36 : (px_S M s).2.2.1 6 = s := by
  unfold px_S
  rfl
theorem qln {n : Nat} {kk : Int32 → cz_Z} (hn : n < 299) : cz_iald (px_set h m (px_S M s)) (some (m + 2)) (Int32.ofNat n) kk = kk (s n) := pln_s hn
theorem qsn {n : Nat} {v : Int32} {kk : cz_H → cz_Z} (hn : n < 299) (hb : h.1.1 ≤ m) : cz_iast (px_set h m (px_S M s)) (some (m + 2)) (Int32.ofNat n) v kk = kk (px_set h m (px_S M (upd s n v))) := by
  rw [psn_s hn hb, px_SA]
theorem ql_0 {kk : Int32 → cz_Z} : cz_iald (px_set h m (px_S M s)) (some (m + 2)) 0 kk = kk (s 0) := qln (n := 0) (by decide)
theorem ql_1 {kk : Int32 → cz_Z} : cz_iald (px_set h m (px_S M s)) (some (m + 2)) 1 kk = kk (s 1) := qln (n := 1) (by decide)
theorem ql_2 {kk : Int32 → cz_Z} : cz_iald (px_set h m (px_S M s)) (some (m + 2)) 2 kk = kk (s 2) := qln (n := 2) (by decide)
theorem ql_3 {kk : Int32 → cz_Z} : cz_iald (px_set h m (px_S M s)) (some (m + 2)) 3 kk = kk (s 3) := qln (n := 3) (by decide)
theorem ql_4 {kk : Int32 → cz_Z} : cz_iald (px_set h m (px_S M s)) (some (m + 2)) 4 kk = kk (s 4) := qln (n := 4) (by decide)
theorem ql_5 {kk : Int32 → cz_Z} : cz_iald (px_set h m (px_S M s)) (some (m + 2)) 5 kk = kk (s 5) := qln (n := 5) (by decide)
theorem ql_6 {kk : Int32 → cz_Z} : cz_iald (px_set h m (px_S M s)) (some (m + 2)) 6 kk = kk (s 6) := qln (n := 6) (by decide)
theorem ql_7 {kk : Int32 → cz_Z} : cz_iald (px_set h m (px_S M s)) (some (m + 2)) 7 kk = kk (s 7) := qln (n := 7) (by decide)
theorem ql_62 {kk : Int32 → cz_Z} : cz_iald (px_set h m (px_S M s)) (some (m + 2)) 62 kk = kk (s 62) := qln (n := 62) (by decide)
theorem qs_62 {v : Int32} {kk : cz_H → cz_Z} (hb : h.1.1 ≤ m) : cz_iast (px_set h m (px_S M s)) (some (m + 2)) 62 v kk = kk (px_set h m (px_S M (upd s 62 v))) := qsn (n := 62) (by decide) hb
theorem ql_63 {kk : Int32 → cz_Z} : cz_iald (px_set h m (px_S M s)) (some (m + 2)) 63 kk = kk (s 63) := qln (n := 63) (by decide)
theorem qs_63 {v : Int32} {kk : cz_H → cz_Z} (hb : h.1.1 ≤ m) : cz_iast (px_set h m (px_S M s)) (some (m + 2)) 63 v kk = kk (px_set h m (px_S M (upd s 63 v))) := qsn (n := 63) (by decide) hb
theorem ql_64 {kk : Int32 → cz_Z} : cz_iald (px_set h m (px_S M s)) (some (m + 2)) 64 kk = kk (s 64) := qln (n := 64) (by decide)
theorem qs_64 {v : Int32} {kk : cz_H → cz_Z} (hb : h.1.1 ≤ m) : cz_iast (px_set h m (px_S M s)) (some (m + 2)) 64 v kk = kk (px_set h m (px_S M (upd s 64 v))) := qsn (n := 64) (by decide) hb
theorem ql_117 {kk : Int32 → cz_Z} : cz_iald (px_set h m (px_S M s)) (some (m + 2)) 117 kk = kk (s 117) := qln (n := 117) (by decide)
theorem qs_117 {v : Int32} {kk : cz_H → cz_Z} (hb : h.1.1 ≤ m) : cz_iast (px_set h m (px_S M s)) (some (m + 2)) 117 v kk = kk (px_set h m (px_S M (upd s 117 v))) := qsn (n := 117) (by decide) hb
theorem ql_118 {kk : Int32 → cz_Z} : cz_iald (px_set h m (px_S M s)) (some (m + 2)) 118 kk = kk (s 118) := qln (n := 118) (by decide)
theorem qs_118 {v : Int32} {kk : cz_H → cz_Z} (hb : h.1.1 ≤ m) : cz_iast (px_set h m (px_S M s)) (some (m + 2)) 118 v kk = kk (px_set h m (px_S M (upd s 118 v))) := qsn (n := 118) (by decide) hb
end PXS
theorem pg_thrown {h : cz_H} {m : Nat} {M : px_M} {kk : Int32 → cz_Z} : cz_getI (px_set h m M) (some m) [(5, 0)] kk = kk (M.1 0) := px_getI (by decide) (by decide)
theorem pp_thrown {h : cz_H} {m : Nat} {M : px_M} {v : Int32} {kk : cz_H → cz_Z} (hb : h.1.1 ≤ m) : cz_put (px_set h m M) (some m) [(5, 0)] (cz_i v) kk = kk (px_set h m (px_I M 0 v)) := px_putI (by decide) (by decide) hb
theorem pg_length {h : cz_H} {m : Nat} {M : px_M} {kk : Int32 → cz_Z} : cz_getI (px_set h m M) (some m) [(5, 2)] kk = kk (M.1 2) := px_getI (by decide) (by decide)
theorem pp_length {h : cz_H} {m : Nat} {M : px_M} {v : Int32} {kk : cz_H → cz_Z} (hb : h.1.1 ≤ m) : cz_put (px_set h m M) (some m) [(5, 2)] (cz_i v) kk = kk (px_set h m (px_I M 2 v)) := px_putI (by decide) (by decide) hb
theorem pg_size {h : cz_H} {m : Nat} {M : px_M} {kk : Int32 → cz_Z} : cz_getI (px_set h m M) (some m) [(5, 3)] kk = kk (M.1 3) := px_getI (by decide) (by decide)
theorem pp_size {h : cz_H} {m : Nat} {M : px_M} {v : Int32} {kk : cz_H → cz_Z} (hb : h.1.1 ≤ m) : cz_put (px_set h m M) (some m) [(5, 3)] (cz_i v) kk = kk (px_set h m (px_I M 3 v)) := px_putI (by decide) (by decide) hb
theorem pg_p {h : cz_H} {m : Nat} {M : px_M} {kk : Int32 → cz_Z} : cz_getI (px_set h m M) (some m) [(5, 4)] kk = kk (M.1 4) := px_getI (by decide) (by decide)
theorem pp_p {h : cz_H} {m : Nat} {M : px_M} {v : Int32} {kk : cz_H → cz_Z} (hb : h.1.1 ≤ m) : cz_put (px_set h m M) (some m) [(5, 4)] (cz_i v) kk = kk (px_set h m (px_I M 4 v)) := px_putI (by decide) (by decide) hb
theorem pg_limit {h : cz_H} {m : Nat} {M : px_M} {kk : Int32 → cz_Z} : cz_getI (px_set h m M) (some m) [(5, 5)] kk = kk (M.1 5) := px_getI (by decide) (by decide)
theorem pp_limit {h : cz_H} {m : Nat} {M : px_M} {v : Int32} {kk : cz_H → cz_Z} (hb : h.1.1 ≤ m) : cz_put (px_set h m M) (some m) [(5, 5)] (cz_i v) kk = kk (px_set h m (px_I M 5 v)) := px_putI (by decide) (by decide) hb
theorem pg_token {h : cz_H} {m : Nat} {M : px_M} {kk : Int32 → cz_Z} : cz_getI (px_set h m M) (some m) [(5, 11)] kk = kk (M.1 11) := px_getI (by decide) (by decide)
theorem pp_token {h : cz_H} {m : Nat} {M : px_M} {v : Int32} {kk : cz_H → cz_Z} (hb : h.1.1 ≤ m) : cz_put (px_set h m M) (some m) [(5, 11)] (cz_i v) kk = kk (px_set h m (px_I M 11 v)) := px_putI (by decide) (by decide) hb
theorem pg_at {h : cz_H} {m : Nat} {M : px_M} {kk : Int32 → cz_Z} : cz_getI (px_set h m M) (some m) [(5, 12)] kk = kk (M.1 12) := px_getI (by decide) (by decide)
theorem pp_at {h : cz_H} {m : Nat} {M : px_M} {v : Int32} {kk : cz_H → cz_Z} (hb : h.1.1 ≤ m) : cz_put (px_set h m M) (some m) [(5, 12)] (cz_i v) kk = kk (px_set h m (px_I M 12 v)) := px_putI (by decide) (by decide) hb
theorem pg_span {h : cz_H} {m : Nat} {M : px_M} {kk : Int32 → cz_Z} : cz_getI (px_set h m M) (some m) [(5, 13)] kk = kk (M.1 13) := px_getI (by decide) (by decide)
theorem pp_span {h : cz_H} {m : Nat} {M : px_M} {v : Int32} {kk : cz_H → cz_Z} (hb : h.1.1 ≤ m) : cz_put (px_set h m M) (some m) [(5, 13)] (cz_i v) kk = kk (px_set h m (px_I M 13 v)) := px_putI (by decide) (by decide) hb
theorem pg_number {h : cz_H} {m : Nat} {M : px_M} {kk : Int32 → cz_Z} : cz_getI (px_set h m M) (some m) [(5, 14)] kk = kk (M.1 14) := px_getI (by decide) (by decide)
theorem pp_number {h : cz_H} {m : Nat} {M : px_M} {v : Int32} {kk : cz_H → cz_Z} (hb : h.1.1 ≤ m) : cz_put (px_set h m M) (some m) [(5, 14)] (cz_i v) kk = kk (px_set h m (px_I M 14 v)) := px_putI (by decide) (by decide) hb
theorem pg_fault {h : cz_H} {m : Nat} {M : px_M} {kk : Int32 → cz_Z} : cz_getI (px_set h m M) (some m) [(5, 15)] kk = kk (M.1 15) := px_getI (by decide) (by decide)
theorem pp_fault {h : cz_H} {m : Nat} {M : px_M} {v : Int32} {kk : cz_H → cz_Z} (hb : h.1.1 ≤ m) : cz_put (px_set h m M) (some m) [(5, 15)] (cz_i v) kk = kk (px_set h m (px_I M 15 v)) := px_putI (by decide) (by decide) hb
theorem pg_faultAt {h : cz_H} {m : Nat} {M : px_M} {kk : Int32 → cz_Z} : cz_getI (px_set h m M) (some m) [(5, 16)] kk = kk (M.1 16) := px_getI (by decide) (by decide)
theorem pp_faultAt {h : cz_H} {m : Nat} {M : px_M} {v : Int32} {kk : cz_H → cz_Z} (hb : h.1.1 ≤ m) : cz_put (px_set h m M) (some m) [(5, 16)] (cz_i v) kk = kk (px_set h m (px_I M 16 v)) := px_putI (by decide) (by decide) hb
theorem pg_got {h : cz_H} {m : Nat} {M : px_M} {kk : Int32 → cz_Z} : cz_getI (px_set h m M) (some m) [(5, 18)] kk = kk (M.1 18) := px_getI (by decide) (by decide)
theorem pp_got {h : cz_H} {m : Nat} {M : px_M} {v : Int32} {kk : cz_H → cz_Z} (hb : h.1.1 ≤ m) : cz_put (px_set h m M) (some m) [(5, 18)] (cz_i v) kk = kk (px_set h m (px_I M 18 v)) := px_putI (by decide) (by decide) hb
theorem pg_lines {h : cz_H} {m : Nat} {M : px_M} {kk : Int32 → cz_Z} : cz_getI (px_set h m M) (some m) [(5, 19)] kk = kk (M.1 19) := px_getI (by decide) (by decide)
theorem pp_lines {h : cz_H} {m : Nat} {M : px_M} {v : Int32} {kk : cz_H → cz_Z} (hb : h.1.1 ≤ m) : cz_put (px_set h m M) (some m) [(5, 19)] (cz_i v) kk = kk (px_set h m (px_I M 19 v)) := px_putI (by decide) (by decide) hb
theorem pg_onces {h : cz_H} {m : Nat} {M : px_M} {kk : Int32 → cz_Z} : cz_getI (px_set h m M) (some m) [(5, 20)] kk = kk (M.1 20) := px_getI (by decide) (by decide)
theorem pp_onces {h : cz_H} {m : Nat} {M : px_M} {v : Int32} {kk : cz_H → cz_Z} (hb : h.1.1 ≤ m) : cz_put (px_set h m M) (some m) [(5, 20)] (cz_i v) kk = kk (px_set h m (px_I M 20 v)) := px_putI (by decide) (by decide) hb
theorem pg_undoMany {h : cz_H} {m : Nat} {M : px_M} {kk : Int32 → cz_Z} : cz_getI (px_set h m M) (some m) [(5, 23)] kk = kk (M.1 23) := px_getI (by decide) (by decide)
theorem pp_undoMany {h : cz_H} {m : Nat} {M : px_M} {v : Int32} {kk : cz_H → cz_Z} (hb : h.1.1 ≤ m) : cz_put (px_set h m M) (some m) [(5, 23)] (cz_i v) kk = kk (px_set h m (px_I M 23 v)) := px_putI (by decide) (by decide) hb
theorem pg_laidSet {h : cz_H} {m : Nat} {M : px_M} {kk : Int32 → cz_Z} : cz_getI (px_set h m M) (some m) [(5, 24)] kk = kk (M.1 24) := px_getI (by decide) (by decide)
theorem pp_laidSet {h : cz_H} {m : Nat} {M : px_M} {v : Int32} {kk : cz_H → cz_Z} (hb : h.1.1 ≤ m) : cz_put (px_set h m M) (some m) [(5, 24)] (cz_i v) kk = kk (px_set h m (px_I M 24 v)) := px_putI (by decide) (by decide) hb
theorem pg_hasLaid {h : cz_H} {m : Nat} {M : px_M} {kk : Int32 → cz_Z} : cz_getI (px_set h m M) (some m) [(5, 25)] kk = kk (M.1 25) := px_getI (by decide) (by decide)
theorem pp_hasLaid {h : cz_H} {m : Nat} {M : px_M} {v : Int32} {kk : cz_H → cz_Z} (hb : h.1.1 ≤ m) : cz_put (px_set h m M) (some m) [(5, 25)] (cz_i v) kk = kk (px_set h m (px_I M 25 v)) := px_putI (by decide) (by decide) hb
theorem pg_turnSet {h : cz_H} {m : Nat} {M : px_M} {kk : Int32 → cz_Z} : cz_getI (px_set h m M) (some m) [(5, 26)] kk = kk (M.1 26) := px_getI (by decide) (by decide)
theorem pp_turnSet {h : cz_H} {m : Nat} {M : px_M} {v : Int32} {kk : cz_H → cz_Z} (hb : h.1.1 ≤ m) : cz_put (px_set h m M) (some m) [(5, 26)] (cz_i v) kk = kk (px_set h m (px_I M 26 v)) := px_putI (by decide) (by decide) hb
theorem pg_hasTurns {h : cz_H} {m : Nat} {M : px_M} {kk : Int32 → cz_Z} : cz_getI (px_set h m M) (some m) [(5, 27)] kk = kk (M.1 27) := px_getI (by decide) (by decide)
theorem pp_hasTurns {h : cz_H} {m : Nat} {M : px_M} {v : Int32} {kk : cz_H → cz_Z} (hb : h.1.1 ≤ m) : cz_put (px_set h m M) (some m) [(5, 27)] (cz_i v) kk = kk (px_set h m (px_I M 27 v)) := px_putI (by decide) (by decide) hb
theorem pg_frostDay {h : cz_H} {m : Nat} {M : px_M} {kk : Int32 → cz_Z} : cz_getI (px_set h m M) (some m) [(5, 28)] kk = kk (M.1 28) := px_getI (by decide) (by decide)
theorem pp_frostDay {h : cz_H} {m : Nat} {M : px_M} {v : Int32} {kk : cz_H → cz_Z} (hb : h.1.1 ≤ m) : cz_put (px_set h m M) (some m) [(5, 28)] (cz_i v) kk = kk (px_set h m (px_I M 28 v)) := px_putI (by decide) (by decide) hb
theorem pg_surelySet {h : cz_H} {m : Nat} {M : px_M} {kk : Int32 → cz_Z} : cz_getI (px_set h m M) (some m) [(5, 29)] kk = kk (M.1 29) := px_getI (by decide) (by decide)
theorem pp_surelySet {h : cz_H} {m : Nat} {M : px_M} {v : Int32} {kk : cz_H → cz_Z} (hb : h.1.1 ≤ m) : cz_put (px_set h m M) (some m) [(5, 29)] (cz_i v) kk = kk (px_set h m (px_I M 29 v)) := px_putI (by decide) (by decide) hb
theorem pg_neverSet {h : cz_H} {m : Nat} {M : px_M} {kk : Int32 → cz_Z} : cz_getI (px_set h m M) (some m) [(5, 30)] kk = kk (M.1 30) := px_getI (by decide) (by decide)
theorem pp_neverSet {h : cz_H} {m : Nat} {M : px_M} {v : Int32} {kk : cz_H → cz_Z} (hb : h.1.1 ≤ m) : cz_put (px_set h m M) (some m) [(5, 30)] (cz_i v) kk = kk (px_set h m (px_I M 30 v)) := px_putI (by decide) (by decide) hb
theorem pg_hasHooks {h : cz_H} {m : Nat} {M : px_M} {kk : Int32 → cz_Z} : cz_getI (px_set h m M) (some m) [(5, 31)] kk = kk (M.1 31) := px_getI (by decide) (by decide)
theorem pp_hasHooks {h : cz_H} {m : Nat} {M : px_M} {v : Int32} {kk : cz_H → cz_Z} (hb : h.1.1 ≤ m) : cz_put (px_set h m M) (some m) [(5, 31)] (cz_i v) kk = kk (px_set h m (px_I M 31 v)) := px_putI (by decide) (by decide) hb
theorem pg_priceNow {h : cz_H} {m : Nat} {M : px_M} {kk : Int32 → cz_Z} : cz_getI (px_set h m M) (some m) [(5, 33)] kk = kk (M.1 33) := px_getI (by decide) (by decide)
theorem pp_priceNow {h : cz_H} {m : Nat} {M : px_M} {v : Int32} {kk : cz_H → cz_Z} (hb : h.1.1 ≤ m) : cz_put (px_set h m M) (some m) [(5, 33)] (cz_i v) kk = kk (px_set h m (px_I M 33 v)) := px_putI (by decide) (by decide) hb
theorem pg_hasPrice {h : cz_H} {m : Nat} {M : px_M} {kk : Int32 → cz_Z} : cz_getI (px_set h m M) (some m) [(5, 34)] kk = kk (M.1 34) := px_getI (by decide) (by decide)
theorem pp_hasPrice {h : cz_H} {m : Nat} {M : px_M} {v : Int32} {kk : cz_H → cz_Z} (hb : h.1.1 ≤ m) : cz_put (px_set h m M) (some m) [(5, 34)] (cz_i v) kk = kk (px_set h m (px_I M 34 v)) := px_putI (by decide) (by decide) hb
theorem pg_seed {h : cz_H} {m : Nat} {M : px_M} {kk : Int32 → cz_Z} : cz_getI (px_set h m M) (some m) [(5, 35)] kk = kk (M.1 35) := px_getI (by decide) (by decide)
theorem pp_seed {h : cz_H} {m : Nat} {M : px_M} {v : Int32} {kk : cz_H → cz_Z} (hb : h.1.1 ≤ m) : cz_put (px_set h m M) (some m) [(5, 35)] (cz_i v) kk = kk (px_set h m (px_I M 35 v)) := px_putI (by decide) (by decide) hb
theorem pg_toldMany {h : cz_H} {m : Nat} {M : px_M} {kk : Int32 → cz_Z} : cz_getI (px_set h m M) (some m) [(5, 36)] kk = kk (M.1 36) := px_getI (by decide) (by decide)
theorem pp_toldMany {h : cz_H} {m : Nat} {M : px_M} {v : Int32} {kk : cz_H → cz_Z} (hb : h.1.1 ≤ m) : cz_put (px_set h m M) (some m) [(5, 36)] (cz_i v) kk = kk (px_set h m (px_I M 36 v)) := px_putI (by decide) (by decide) hb
theorem pg_hasTold {h : cz_H} {m : Nat} {M : px_M} {kk : Int32 → cz_Z} : cz_getI (px_set h m M) (some m) [(5, 38)] kk = kk (M.1 38) := px_getI (by decide) (by decide)
theorem pp_hasTold {h : cz_H} {m : Nat} {M : px_M} {v : Int32} {kk : cz_H → cz_Z} (hb : h.1.1 ≤ m) : cz_put (px_set h m M) (some m) [(5, 38)] (cz_i v) kk = kk (px_set h m (px_I M 38 v)) := px_putI (by decide) (by decide) hb
theorem pg_codes {h : cz_H} {m : Nat} {M : px_M} {kk : Int32 → cz_Z} : cz_getI (px_set h m M) (some m) [(5, 40)] kk = kk (M.1 40) := px_getI (by decide) (by decide)
theorem pp_codes {h : cz_H} {m : Nat} {M : px_M} {v : Int32} {kk : cz_H → cz_Z} (hb : h.1.1 ≤ m) : cz_put (px_set h m M) (some m) [(5, 40)] (cz_i v) kk = kk (px_set h m (px_I M 40 v)) := px_putI (by decide) (by decide) hb
theorem pg_ones {h : cz_H} {m : Nat} {M : px_M} {kk : Int32 → cz_Z} : cz_getI (px_set h m M) (some m) [(5, 41)] kk = kk (M.1 41) := px_getI (by decide) (by decide)
theorem pp_ones {h : cz_H} {m : Nat} {M : px_M} {v : Int32} {kk : cz_H → cz_Z} (hb : h.1.1 ≤ m) : cz_put (px_set h m M) (some m) [(5, 41)] (cz_i v) kk = kk (px_set h m (px_I M 41 v)) := px_putI (by decide) (by decide) hb
theorem pg_top {h : cz_H} {m : Nat} {M : px_M} {kk : Int32 → cz_Z} : cz_getI (px_set h m M) (some m) [(5, 42)] kk = kk (M.1 42) := px_getI (by decide) (by decide)
theorem pp_top {h : cz_H} {m : Nat} {M : px_M} {v : Int32} {kk : cz_H → cz_Z} (hb : h.1.1 ≤ m) : cz_put (px_set h m M) (some m) [(5, 42)] (cz_i v) kk = kk (px_set h m (px_I M 42 v)) := px_putI (by decide) (by decide) hb
theorem pg_deep {h : cz_H} {m : Nat} {M : px_M} {kk : Int32 → cz_Z} : cz_getI (px_set h m M) (some m) [(5, 43)] kk = kk (M.1 43) := px_getI (by decide) (by decide)
theorem pp_deep {h : cz_H} {m : Nat} {M : px_M} {v : Int32} {kk : cz_H → cz_Z} (hb : h.1.1 ≤ m) : cz_put (px_set h m M) (some m) [(5, 43)] (cz_i v) kk = kk (px_set h m (px_I M 43 v)) := px_putI (by decide) (by decide) hb
theorem pg_isWhole {h : cz_H} {m : Nat} {M : px_M} {kk : Int32 → cz_Z} : cz_getI (px_set h m M) (some m) [(5, 44)] kk = kk (M.1 44) := px_getI (by decide) (by decide)
theorem pp_isWhole {h : cz_H} {m : Nat} {M : px_M} {v : Int32} {kk : cz_H → cz_Z} (hb : h.1.1 ≤ m) : cz_put (px_set h m M) (some m) [(5, 44)] (cz_i v) kk = kk (px_set h m (px_I M 44 v)) := px_putI (by decide) (by decide) hb
