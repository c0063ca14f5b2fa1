/-! THE PLAIN LAW, 11: a Reign as one pure state (printed by wip/D-98934w/gen/pure3.py) -/
set_option maxRecDepth 100000
/-- its Capital; ints; arrays: by the numbers of the fields -/
abbrev rx_R : Type := Option Nat × (Nat → Int32) × (Nat → Nat → Int32)
def rx_C (R : rx_R) (c : Option Nat) : rx_R := (c, R.2.1, R.2.2)
def rx_I (R : rx_R) (j : Nat) (v : Int32) : rx_R := (R.1, fun q => if q = j then v else R.2.1 q, R.2.2)
def rx_A (R : rx_R) (j i : Nat) (v : Int32) : rx_R := (R.1, R.2.1, fun q => if q = j then upd (R.2.2 j) i v else R.2.2 q)
def rx_B (R : rx_R) (j : Nat) (g : Nat → Int32) : rx_R := (R.1, R.2.1, fun q => if q = j then g else R.2.2 q)
def rx_fld (r : Nat) (R : rx_R) (j : Nat) : cz_v := if j = 0 then cz_r R.1 else if j = 6 then cz_r (some (r + 1)) else if j = 7 then cz_r (some (r + 2)) else if j = 8 then cz_r (some (r + 3)) else if j = 9 then cz_r (some (r + 4)) else if j = 10 then cz_r (some (r + 5)) else if j = 11 then cz_r (some (r + 6)) else if j = 12 then cz_r (some (r + 7)) else cz_i (R.2.1 j)
def rx_cell (r : Nat) (R : rx_R) : Nat → cz_C
  | 0 => .inl (3, rx_fld r R)
  | 1 => .inr (0, 8, .inl (R.2.2 6))
  | 2 => .inr (0, 8, .inl (R.2.2 7))
  | 3 => .inr (0, 8, .inl (R.2.2 8))
  | 4 => .inr (0, 8, .inl (R.2.2 9))
  | 5 => .inr (0, 8, .inl (R.2.2 10))
  | 6 => .inr (0, 6, .inl (R.2.2 11))
  | _ => .inr (0, 6, .inl (R.2.2 12))
def rx_set (h : cz_H) (r : Nat) (R : rx_R) : cz_H := (h.1, h.2.1, h.2.2.1, fun q => if r ≤ q ∧ q < r + 8 then some (rx_cell r R (q - r)) else h.2.2.2 q)
theorem rx_at (h : cz_H) (r : Nat) (R : rx_R) {k : Nat} (hk : k < 8) : (rx_set h r R).2.2.2 (r + k) = some (rx_cell r R k) := by
  show (if r ≤ r + k ∧ r + k < r + 8 then some (rx_cell r R (r + k - r)) else h.2.2.2 (r + k)) = _
  rw [if_pos (by omega), Nat.add_sub_cancel_left]
theorem rx_at0 (h : cz_H) (r : Nat) (R : rx_R) : (rx_set h r R).2.2.2 r = some (.inl (3, rx_fld r R)) := rx_at h r R (k := 0) (by decide)
theorem rx_out (h : cz_H) (r : Nat) (R : rx_R) {q : Nat} (hq : q < r ∨ r + 8 ≤ q) : (rx_set h r R).2.2.2 q = h.2.2.2 q := if_neg (by omega)
theorem rx_e (h : cz_H) (r : Nat) (R : rx_R) : (rx_set h r R).1 = h.1 := rfl
theorem rx_id {h : cz_H} {r : Nat} {R : rx_R} (e : ∀ k, k < 8 → h.2.2.2 (r + k) = some (rx_cell r R k)) : rx_set h r R = h := by
  unfold rx_set
  refine Prod.ext rfl (Prod.ext rfl (Prod.ext rfl ?_))
  funext q
  dsimp only
  split
  · rename_i hq
    have := e (q - r) (by omega)
    rw [show r + (q - r) = q by omega] at this
    exact this.symm
  · rfl
theorem rx_two (h : cz_H) (r : Nat) (R R2 : rx_R) : rx_set (rx_set h r R) r R2 = rx_set h r R2 := by
  unfold rx_set
  refine Prod.ext rfl (Prod.ext rfl (Prod.ext rfl ?_))
  funext q
  dsimp only
  split <;> rfl
theorem rx_put (h : cz_H) (r : Nat) (R R2 : rx_R) {k : Nat} (hk : k < 8) {x : cz_C} (hx : x = rx_cell r R2 k) (he : ∀ q, q < 8 → q ≠ k → rx_cell r R q = rx_cell r R2 q) : cz_set (rx_set h r R) (r + k) x = rx_set h r R2 := by
  unfold cz_set rx_set
  refine Prod.ext rfl (Prod.ext rfl (Prod.ext rfl ?_))
  funext q
  dsimp only
  by_cases hq : q = r + k
  · subst hq
    rw [if_pos rfl, if_pos (by omega), Nat.add_sub_cancel_left, hx]
  · rw [if_neg hq]
    by_cases hm : r ≤ q ∧ q < r + 8
    · rw [if_pos hm, if_pos hm, he (q - r) (by omega) (by omega)]
    · rw [if_neg hm, if_neg hm]
section RXA
variable {h : cz_H} {r : Nat} {R : rx_R}
theorem rx_rc {z : cz_Z} : cz_rc (rx_set h r R) (some r) [3] z = z := by
  unfold cz_rc
  dsimp only
  rw [rx_at0]
  rfl
theorem rg_c {kk : Option Nat → cz_Z} : cz_getR (rx_set h r R) (some r) [(3, 0)] kk = kk R.1 := by
  unfold cz_getR cz_fld
  dsimp only
  rw [rx_at0]
  rfl
theorem rg_day {kk : Int32 → cz_Z} : cz_getI (rx_set h r R) (some r) [(3, 1)] kk = kk (R.2.1 1) := by
  unfold cz_getI cz_fld
  dsimp only
  rw [rx_at0]
  rfl
theorem rg_bares {kk : Int32 → cz_Z} : cz_getI (rx_set h r R) (some r) [(3, 2)] kk = kk (R.2.1 2) := by
  unfold cz_getI cz_fld
  dsimp only
  rw [rx_at0]
  rfl
theorem rg_firstBare {kk : Int32 → cz_Z} : cz_getI (rx_set h r R) (some r) [(3, 3)] kk = kk (R.2.1 3) := by
  unfold cz_getI cz_fld
  dsimp only
  rw [rx_at0]
  rfl
theorem rg_eaten {kk : Int32 → cz_Z} : cz_getI (rx_set h r R) (some r) [(3, 4)] kk = kk (R.2.1 4) := by
  unfold cz_getI cz_fld
  dsimp only
  rw [rx_at0]
  rfl
theorem rg_queued {kk : Int32 → cz_Z} : cz_getI (rx_set h r R) (some r) [(3, 5)] kk = kk (R.2.1 5) := by
  unfold cz_getI cz_fld
  dsimp only
  rw [rx_at0]
  rfl
theorem rg_seed {kk : Int32 → cz_Z} : cz_getI (rx_set h r R) (some r) [(3, 13)] kk = kk (R.2.1 13) := by
  unfold cz_getI cz_fld
  dsimp only
  rw [rx_at0]
  rfl
theorem rp_c {v : Option Nat} {kk : cz_H → cz_Z} (hb : h.1.1 ≤ r) : cz_put (rx_set h r R) (some r) [(3, 0)] (cz_r v) kk = kk (rx_set h r (rx_C R v)) := by
  unfold cz_put
  dsimp only
  rw [rx_at0]
  show (if h.1.1 ≤ r then kk (cz_set (rx_set h r R) (r + 0) _) else none) = _
  rw [if_pos hb, rx_put h r R (rx_C R v) (k := 0) (by decide)]
  · show _ = Sum.inl (3, rx_fld r (rx_C R v))
    congr 1
    refine Prod.ext rfl ?_
    funext q
    dsimp only
    by_cases hq : q = 0
    · subst hq
      rw [if_pos rfl]
      simp [rx_fld, rx_C, rx_I]
    · rw [if_neg hq]
      simp [rx_fld, rx_C, rx_I, hq]
  · intro q hq0 hq
    match q, hq0, hq with
    | 0, _, hq => exact absurd rfl hq
    | 1, _, _ => rfl
    | 2, _, _ => rfl
    | 3, _, _ => rfl
    | 4, _, _ => rfl
    | 5, _, _ => rfl
    | 6, _, _ => rfl
    | 7, _, _ => rfl
    | q + 8, hq0, _ => exact absurd hq0 (by omega)
theorem rp_day {v : Int32} {kk : cz_H → cz_Z} (hb : h.1.1 ≤ r) : cz_put (rx_set h r R) (some r) [(3, 1)] (cz_i v) kk = kk (rx_set h r (rx_I R 1 v)) := by
  unfold cz_put
  dsimp only
  rw [rx_at0]
  show (if h.1.1 ≤ r then kk (cz_set (rx_set h r R) (r + 0) _) else none) = _
  rw [if_pos hb, rx_put h r R (rx_I R 1 v) (k := 0) (by decide)]
  · show _ = Sum.inl (3, rx_fld r (rx_I R 1 v))
    congr 1
    refine Prod.ext rfl ?_
    funext q
    dsimp only
    by_cases hq : q = 1
    · subst hq
      rw [if_pos rfl]
      simp [rx_fld, rx_C, rx_I]
    · rw [if_neg hq]
      simp [rx_fld, rx_C, rx_I, hq]
  · intro q hq0 hq
    match q, hq0, hq with
    | 0, _, hq => exact absurd rfl hq
    | 1, _, _ => rfl
    | 2, _, _ => rfl
    | 3, _, _ => rfl
    | 4, _, _ => rfl
    | 5, _, _ => rfl
    | 6, _, _ => rfl
    | 7, _, _ => rfl
    | q + 8, hq0, _ => exact absurd hq0 (by omega)
theorem rp_bares {v : Int32} {kk : cz_H → cz_Z} (hb : h.1.1 ≤ r) : cz_put (rx_set h r R) (some r) [(3, 2)] (cz_i v) kk = kk (rx_set h r (rx_I R 2 v)) := by
  unfold cz_put
  dsimp only
  rw [rx_at0]
  show (if h.1.1 ≤ r then kk (cz_set (rx_set h r R) (r + 0) _) else none) = _
  rw [if_pos hb, rx_put h r R (rx_I R 2 v) (k := 0) (by decide)]
  · show _ = Sum.inl (3, rx_fld r (rx_I R 2 v))
    congr 1
    refine Prod.ext rfl ?_
    funext q
    dsimp only
    by_cases hq : q = 2
    · subst hq
      rw [if_pos rfl]
      simp [rx_fld, rx_C, rx_I]
    · rw [if_neg hq]
      simp [rx_fld, rx_C, rx_I, hq]
  · intro q hq0 hq
    match q, hq0, hq with
    | 0, _, hq => exact absurd rfl hq
    | 1, _, _ => rfl
    | 2, _, _ => rfl
    | 3, _, _ => rfl
    | 4, _, _ => rfl
    | 5, _, _ => rfl
    | 6, _, _ => rfl
    | 7, _, _ => rfl
    | q + 8, hq0, _ => exact absurd hq0 (by omega)
theorem rp_firstBare {v : Int32} {kk : cz_H → cz_Z} (hb : h.1.1 ≤ r) : cz_put (rx_set h r R) (some r) [(3, 3)] (cz_i v) kk = kk (rx_set h r (rx_I R 3 v)) := by
  unfold cz_put
  dsimp only
  rw [rx_at0]
  show (if h.1.1 ≤ r then kk (cz_set (rx_set h r R) (r + 0) _) else none) = _
  rw [if_pos hb, rx_put h r R (rx_I R 3 v) (k := 0) (by decide)]
  · show _ = Sum.inl (3, rx_fld r (rx_I R 3 v))
    congr 1
    refine Prod.ext rfl ?_
    funext q
    dsimp only
    by_cases hq : q = 3
    · subst hq
      rw [if_pos rfl]
      simp [rx_fld, rx_C, rx_I]
    · rw [if_neg hq]
      simp [rx_fld, rx_C, rx_I, hq]
  · intro q hq0 hq
    match q, hq0, hq with
    | 0, _, hq => exact absurd rfl hq
    | 1, _, _ => rfl
    | 2, _, _ => rfl
    | 3, _, _ => rfl
    | 4, _, _ => rfl
    | 5, _, _ => rfl
    | 6, _, _ => rfl
    | 7, _, _ => rfl
    | q + 8, hq0, _ => exact absurd hq0 (by omega)
theorem rp_eaten {v : Int32} {kk : cz_H → cz_Z} (hb : h.1.1 ≤ r) : cz_put (rx_set h r R) (some r) [(3, 4)] (cz_i v) kk = kk (rx_set h r (rx_I R 4 v)) := by
  unfold cz_put
  dsimp only
  rw [rx_at0]
  show (if h.1.1 ≤ r then kk (cz_set (rx_set h r R) (r + 0) _) else none) = _
  rw [if_pos hb, rx_put h r R (rx_I R 4 v) (k := 0) (by decide)]
  · show _ = Sum.inl (3, rx_fld r (rx_I R 4 v))
    congr 1
    refine Prod.ext rfl ?_
    funext q
    dsimp only
    by_cases hq : q = 4
    · subst hq
      rw [if_pos rfl]
      simp [rx_fld, rx_C, rx_I]
    · rw [if_neg hq]
      simp [rx_fld, rx_C, rx_I, hq]
  · intro q hq0 hq
    match q, hq0, hq with
    | 0, _, hq => exact absurd rfl hq
    | 1, _, _ => rfl
    | 2, _, _ => rfl
    | 3, _, _ => rfl
    | 4, _, _ => rfl
    | 5, _, _ => rfl
    | 6, _, _ => rfl
    | 7, _, _ => rfl
    | q + 8, hq0, _ => exact absurd hq0 (by omega)
theorem rp_queued {v : Int32} {kk : cz_H → cz_Z} (hb : h.1.1 ≤ r) : cz_put (rx_set h r R) (some r) [(3, 5)] (cz_i v) kk = kk (rx_set h r (rx_I R 5 v)) := by
  unfold cz_put
  dsimp only
  rw [rx_at0]
  show (if h.1.1 ≤ r then kk (cz_set (rx_set h r R) (r + 0) _) else none) = _
  rw [if_pos hb, rx_put h r R (rx_I R 5 v) (k := 0) (by decide)]
  · show _ = Sum.inl (3, rx_fld r (rx_I R 5 v))
    congr 1
    refine Prod.ext rfl ?_
    funext q
    dsimp only
    by_cases hq : q = 5
    · subst hq
      rw [if_pos rfl]
      simp [rx_fld, rx_C, rx_I]
    · rw [if_neg hq]
      simp [rx_fld, rx_C, rx_I, hq]
  · intro q hq0 hq
    match q, hq0, hq with
    | 0, _, hq => exact absurd rfl hq
    | 1, _, _ => rfl
    | 2, _, _ => rfl
    | 3, _, _ => rfl
    | 4, _, _ => rfl
    | 5, _, _ => rfl
    | 6, _, _ => rfl
    | 7, _, _ => rfl
    | q + 8, hq0, _ => exact absurd hq0 (by omega)
theorem rp_seed {v : Int32} {kk : cz_H → cz_Z} (hb : h.1.1 ≤ r) : cz_put (rx_set h r R) (some r) [(3, 13)] (cz_i v) kk = kk (rx_set h r (rx_I R 13 v)) := by
  unfold cz_put
  dsimp only
  rw [rx_at0]
  show (if h.1.1 ≤ r then kk (cz_set (rx_set h r R) (r + 0) _) else none) = _
  rw [if_pos hb, rx_put h r R (rx_I R 13 v) (k := 0) (by decide)]
  · show _ = Sum.inl (3, rx_fld r (rx_I R 13 v))
    congr 1
    refine Prod.ext rfl ?_
    funext q
    dsimp only
    by_cases hq : q = 13
    · subst hq
      rw [if_pos rfl]
      simp [rx_fld, rx_C, rx_I]
    · rw [if_neg hq]
      simp [rx_fld, rx_C, rx_I, hq]
  · intro q hq0 hq
    match q, hq0, hq with
    | 0, _, hq => exact absurd rfl hq
    | 1, _, _ => rfl
    | 2, _, _ => rfl
    | 3, _, _ => rfl
    | 4, _, _ => rfl
    | 5, _, _ => rfl
    | 6, _, _ => rfl
    | 7, _, _ => rfl
    | q + 8, hq0, _ => exact absurd hq0 (by omega)
theorem rr_at {kk : Option Nat → cz_Z} : cz_getR (rx_set h r R) (some r) [(3, 6)] kk = kk (some (r + 1)) := by
  unfold cz_getR cz_fld
  dsimp only
  rw [rx_at0]
  rfl
theorem rl_at {n : Nat} {kk : Int32 → cz_Z} (hn : n < 8) : cz_iald (rx_set h r R) (some (r + 1)) (Int32.ofNat n) kk = kk (R.2.2 6 n) := pc_iald (rx_at h r R (k := 1) (by decide)) hn (by decide)
theorem rs_at {n : Nat} {v : Int32} {kk : cz_H → cz_Z} (hn : n < 8) (hb : h.1.1 ≤ r) : cz_iast (rx_set h r R) (some (r + 1)) (Int32.ofNat n) v kk = kk (rx_set h r (rx_A R 6 n v)) := by
  unfold cz_iast cz_arr
  dsimp only
  rw [rx_at h r R (by decide)]
  show (if 0 = 0 ∧ h.1.1 ≤ r + 1 then (if _ then none else kk (cz_set _ _ _)) else none) = _
  rw [if_pos ⟨rfl, Nat.le_add_right_of_le hb⟩, if_neg (px_in (Nat.lt_of_lt_of_le hn (Nat.le_of_ble_eq_true rfl)) hn), Int32.toNatClampNeg_ofNat_of_lt (Nat.lt_of_lt_of_le hn (Nat.le_of_ble_eq_true rfl)), rx_put h r R (rx_A R 6 n v) (k := 1) (by decide)]
  · simp [rx_cell, rx_A]
  · intro q hq0 hq
    match q, hq0, hq with
    | 0, _, _ => rfl
    | 1, _, hq => exact absurd rfl hq
    | 2, _, _ => rfl
    | 3, _, _ => rfl
    | 4, _, _ => rfl
    | 5, _, _ => rfl
    | 6, _, _ => rfl
    | 7, _, _ => rfl
    | q + 8, hq, _ => exact absurd hq (by omega)
theorem ra_at {kk : Int32 → cz_Z} : cz_alen (rx_set h r R) (some (r + 1)) kk = kk 8 := by
  unfold cz_alen cz_arr
  dsimp only
  rw [rx_at h r R (by decide)]
  rfl
theorem rr_cloth {kk : Option Nat → cz_Z} : cz_getR (rx_set h r R) (some r) [(3, 7)] kk = kk (some (r + 2)) := by
  unfold cz_getR cz_fld
  dsimp only
  rw [rx_at0]
  rfl
theorem rl_cloth {n : Nat} {kk : Int32 → cz_Z} (hn : n < 8) : cz_iald (rx_set h r R) (some (r + 2)) (Int32.ofNat n) kk = kk (R.2.2 7 n) := pc_iald (rx_at h r R (k := 2) (by decide)) hn (by decide)
theorem rs_cloth {n : Nat} {v : Int32} {kk : cz_H → cz_Z} (hn : n < 8) (hb : h.1.1 ≤ r) : cz_iast (rx_set h r R) (some (r + 2)) (Int32.ofNat n) v kk = kk (rx_set h r (rx_A R 7 n v)) := by
  unfold cz_iast cz_arr
  dsimp only
  rw [rx_at h r R (by decide)]
  show (if 0 = 0 ∧ h.1.1 ≤ r + 2 then (if _ then none else kk (cz_set _ _ _)) else none) = _
  rw [if_pos ⟨rfl, Nat.le_add_right_of_le hb⟩, if_neg (px_in (Nat.lt_of_lt_of_le hn (Nat.le_of_ble_eq_true rfl)) hn), Int32.toNatClampNeg_ofNat_of_lt (Nat.lt_of_lt_of_le hn (Nat.le_of_ble_eq_true rfl)), rx_put h r R (rx_A R 7 n v) (k := 2) (by decide)]
  · simp [rx_cell, rx_A]
  · intro q hq0 hq
    match q, hq0, hq with
    | 0, _, _ => rfl
    | 1, _, _ => rfl
    | 2, _, hq => exact absurd rfl hq
    | 3, _, _ => rfl
    | 4, _, _ => rfl
    | 5, _, _ => rfl
    | 6, _, _ => rfl
    | 7, _, _ => rfl
    | q + 8, hq, _ => exact absurd hq (by omega)
theorem ra_cloth {kk : Int32 → cz_Z} : cz_alen (rx_set h r R) (some (r + 2)) kk = kk 8 := by
  unfold cz_alen cz_arr
  dsimp only
  rw [rx_at h r R (by decide)]
  rfl
theorem rr_user {kk : Option Nat → cz_Z} : cz_getR (rx_set h r R) (some r) [(3, 8)] kk = kk (some (r + 3)) := by
  unfold cz_getR cz_fld
  dsimp only
  rw [rx_at0]
  rfl
theorem rl_user {n : Nat} {kk : Int32 → cz_Z} (hn : n < 8) : cz_iald (rx_set h r R) (some (r + 3)) (Int32.ofNat n) kk = kk (R.2.2 8 n) := pc_iald (rx_at h r R (k := 3) (by decide)) hn (by decide)
theorem rs_user {n : Nat} {v : Int32} {kk : cz_H → cz_Z} (hn : n < 8) (hb : h.1.1 ≤ r) : cz_iast (rx_set h r R) (some (r + 3)) (Int32.ofNat n) v kk = kk (rx_set h r (rx_A R 8 n v)) := by
  unfold cz_iast cz_arr
  dsimp only
  rw [rx_at h r R (by decide)]
  show (if 0 = 0 ∧ h.1.1 ≤ r + 3 then (if _ then none else kk (cz_set _ _ _)) else none) = _
  rw [if_pos ⟨rfl, Nat.le_add_right_of_le hb⟩, if_neg (px_in (Nat.lt_of_lt_of_le hn (Nat.le_of_ble_eq_true rfl)) hn), Int32.toNatClampNeg_ofNat_of_lt (Nat.lt_of_lt_of_le hn (Nat.le_of_ble_eq_true rfl)), rx_put h r R (rx_A R 8 n v) (k := 3) (by decide)]
  · simp [rx_cell, rx_A]
  · intro q hq0 hq
    match q, hq0, hq with
    | 0, _, _ => rfl
    | 1, _, _ => rfl
    | 2, _, _ => rfl
    | 3, _, hq => exact absurd rfl hq
    | 4, _, _ => rfl
    | 5, _, _ => rfl
    | 6, _, _ => rfl
    | 7, _, _ => rfl
    | q + 8, hq, _ => exact absurd hq (by omega)
theorem ra_user {kk : Int32 → cz_Z} : cz_alen (rx_set h r R) (some (r + 3)) kk = kk 8 := by
  unfold cz_alen cz_arr
  dsimp only
  rw [rx_at h r R (by decide)]
  rfl
theorem rr_since {kk : Option Nat → cz_Z} : cz_getR (rx_set h r R) (some r) [(3, 9)] kk = kk (some (r + 4)) := by
  unfold cz_getR cz_fld
  dsimp only
  rw [rx_at0]
  rfl
theorem rl_since {n : Nat} {kk : Int32 → cz_Z} (hn : n < 8) : cz_iald (rx_set h r R) (some (r + 4)) (Int32.ofNat n) kk = kk (R.2.2 9 n) := pc_iald (rx_at h r R (k := 4) (by decide)) hn (by decide)
theorem rs_since {n : Nat} {v : Int32} {kk : cz_H → cz_Z} (hn : n < 8) (hb : h.1.1 ≤ r) : cz_iast (rx_set h r R) (some (r + 4)) (Int32.ofNat n) v kk = kk (rx_set h r (rx_A R 9 n v)) := by
  unfold cz_iast cz_arr
  dsimp only
  rw [rx_at h r R (by decide)]
  show (if 0 = 0 ∧ h.1.1 ≤ r + 4 then (if _ then none else kk (cz_set _ _ _)) else none) = _
  rw [if_pos ⟨rfl, Nat.le_add_right_of_le hb⟩, if_neg (px_in (Nat.lt_of_lt_of_le hn (Nat.le_of_ble_eq_true rfl)) hn), Int32.toNatClampNeg_ofNat_of_lt (Nat.lt_of_lt_of_le hn (Nat.le_of_ble_eq_true rfl)), rx_put h r R (rx_A R 9 n v) (k := 4) (by decide)]
  · simp [rx_cell, rx_A]
  · intro q hq0 hq
    match q, hq0, hq with
    | 0, _, _ => rfl
    | 1, _, _ => rfl
    | 2, _, _ => rfl
    | 3, _, _ => rfl
    | 4, _, hq => exact absurd rfl hq
    | 5, _, _ => rfl
    | 6, _, _ => rfl
    | 7, _, _ => rfl
    | q + 8, hq, _ => exact absurd hq (by omega)
theorem ra_since {kk : Int32 → cz_Z} : cz_alen (rx_set h r R) (some (r + 4)) kk = kk 8 := by
  unfold cz_alen cz_arr
  dsimp only
  rw [rx_at h r R (by decide)]
  rfl
theorem rr_queue {kk : Option Nat → cz_Z} : cz_getR (rx_set h r R) (some r) [(3, 10)] kk = kk (some (r + 5)) := by
  unfold cz_getR cz_fld
  dsimp only
  rw [rx_at0]
  rfl
theorem rl_queue {n : Nat} {kk : Int32 → cz_Z} (hn : n < 8) : cz_iald (rx_set h r R) (some (r + 5)) (Int32.ofNat n) kk = kk (R.2.2 10 n) := pc_iald (rx_at h r R (k := 5) (by decide)) hn (by decide)
theorem rs_queue {n : Nat} {v : Int32} {kk : cz_H → cz_Z} (hn : n < 8) (hb : h.1.1 ≤ r) : cz_iast (rx_set h r R) (some (r + 5)) (Int32.ofNat n) v kk = kk (rx_set h r (rx_A R 10 n v)) := by
  unfold cz_iast cz_arr
  dsimp only
  rw [rx_at h r R (by decide)]
  show (if 0 = 0 ∧ h.1.1 ≤ r + 5 then (if _ then none else kk (cz_set _ _ _)) else none) = _
  rw [if_pos ⟨rfl, Nat.le_add_right_of_le hb⟩, if_neg (px_in (Nat.lt_of_lt_of_le hn (Nat.le_of_ble_eq_true rfl)) hn), Int32.toNatClampNeg_ofNat_of_lt (Nat.lt_of_lt_of_le hn (Nat.le_of_ble_eq_true rfl)), rx_put h r R (rx_A R 10 n v) (k := 5) (by decide)]
  · simp [rx_cell, rx_A]
  · intro q hq0 hq
    match q, hq0, hq with
    | 0, _, _ => rfl
    | 1, _, _ => rfl
    | 2, _, _ => rfl
    | 3, _, _ => rfl
    | 4, _, _ => rfl
    | 5, _, hq => exact absurd rfl hq
    | 6, _, _ => rfl
    | 7, _, _ => rfl
    | q + 8, hq, _ => exact absurd hq (by omega)
theorem ra_queue {kk : Int32 → cz_Z} : cz_alen (rx_set h r R) (some (r + 5)) kk = kk 8 := by
  unfold cz_alen cz_arr
  dsimp only
  rw [rx_at h r R (by decide)]
  rfl
theorem rr_harm {kk : Option Nat → cz_Z} : cz_getR (rx_set h r R) (some r) [(3, 11)] kk = kk (some (r + 6)) := by
  unfold cz_getR cz_fld
  dsimp only
  rw [rx_at0]
  rfl
theorem rl_harm {n : Nat} {kk : Int32 → cz_Z} (hn : n < 6) : cz_iald (rx_set h r R) (some (r + 6)) (Int32.ofNat n) kk = kk (R.2.2 11 n) := pc_iald (rx_at h r R (k := 6) (by decide)) hn (by decide)
theorem rs_harm {n : Nat} {v : Int32} {kk : cz_H → cz_Z} (hn : n < 6) (hb : h.1.1 ≤ r) : cz_iast (rx_set h r R) (some (r + 6)) (Int32.ofNat n) v kk = kk (rx_set h r (rx_A R 11 n v)) := by
  unfold cz_iast cz_arr
  dsimp only
  rw [rx_at h r R (by decide)]
  show (if 0 = 0 ∧ h.1.1 ≤ r + 6 then (if _ then none else kk (cz_set _ _ _)) else none) = _
  rw [if_pos ⟨rfl, Nat.le_add_right_of_le hb⟩, if_neg (px_in (Nat.lt_of_lt_of_le hn (Nat.le_of_ble_eq_true rfl)) hn), Int32.toNatClampNeg_ofNat_of_lt (Nat.lt_of_lt_of_le hn (Nat.le_of_ble_eq_true rfl)), rx_put h r R (rx_A R 11 n v) (k := 6) (by decide)]
  · simp [rx_cell, rx_A]
  · intro q hq0 hq
    match q, hq0, hq with
    | 0, _, _ => rfl
    | 1, _, _ => rfl
    | 2, _, _ => rfl
    | 3, _, _ => rfl
    | 4, _, _ => rfl
    | 5, _, _ => rfl
    | 6, _, hq => exact absurd rfl hq
    | 7, _, _ => rfl
    | q + 8, hq, _ => exact absurd hq (by omega)
theorem ra_harm {kk : Int32 → cz_Z} : cz_alen (rx_set h r R) (some (r + 6)) kk = kk 6 := by
  unfold cz_alen cz_arr
  dsimp only
  rw [rx_at h r R (by decide)]
  rfl
theorem rr_ruled {kk : Option Nat → cz_Z} : cz_getR (rx_set h r R) (some r) [(3, 12)] kk = kk (some (r + 7)) := by
  unfold cz_getR cz_fld
  dsimp only
  rw [rx_at0]
  rfl
theorem rl_ruled {n : Nat} {kk : Int32 → cz_Z} (hn : n < 6) : cz_iald (rx_set h r R) (some (r + 7)) (Int32.ofNat n) kk = kk (R.2.2 12 n) := pc_iald (rx_at h r R (k := 7) (by decide)) hn (by decide)
theorem rs_ruled {n : Nat} {v : Int32} {kk : cz_H → cz_Z} (hn : n < 6) (hb : h.1.1 ≤ r) : cz_iast (rx_set h r R) (some (r + 7)) (Int32.ofNat n) v kk = kk (rx_set h r (rx_A R 12 n v)) := by
  unfold cz_iast cz_arr
  dsimp only
  rw [rx_at h r R (by decide)]
  show (if 0 = 0 ∧ h.1.1 ≤ r + 7 then (if _ then none else kk (cz_set _ _ _)) else none) = _
  rw [if_pos ⟨rfl, Nat.le_add_right_of_le hb⟩, if_neg (px_in (Nat.lt_of_lt_of_le hn (Nat.le_of_ble_eq_true rfl)) hn), Int32.toNatClampNeg_ofNat_of_lt (Nat.lt_of_lt_of_le hn (Nat.le_of_ble_eq_true rfl)), rx_put h r R (rx_A R 12 n v) (k := 7) (by decide)]
  · simp [rx_cell, rx_A]
  · intro q hq0 hq
    match q, hq0, hq with
    | 0, _, _ => rfl
    | 1, _, _ => rfl
    | 2, _, _ => rfl
    | 3, _, _ => rfl
    | 4, _, _ => rfl
    | 5, _, _ => rfl
    | 6, _, _ => rfl
    | 7, _, hq => exact absurd rfl hq
    | q + 8, hq, _ => exact absurd hq (by omega)
theorem ra_ruled {kk : Int32 → cz_Z} : cz_alen (rx_set h r R) (some (r + 7)) kk = kk 6 := by
  unfold cz_alen cz_arr
  dsimp only
  rw [rx_at h r R (by decide)]
  rfl
end RXA
