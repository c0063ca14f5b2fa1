/-! THE PLAIN LAW, 27: Reign.as (printed by wip/D-98934w/gen/pure4.py) -/
set_option maxRecDepth 100000
section RXO
variable {h : cz_H} {r q : Nat} {R S : rx_R}
theorem rc_at (hb : h.1.1 ≤ r) (hi : rx_in h q S) (ha : rx_apart r q) : fn_X3_copy (some (q + 1)) (some (r + 1)) (rx_set h r R) = some (.inl none, rx_set h r (rx_B R 6 (va_cpy (S.2.2 6) (R.2.2 6) 0 0 8))) := by
  have hq := hi.over (R := R) ha 1 (by decide)
  rw [fn_X3_copy, ra_at]
  unfold cz_acp cz_arr
  dsimp only
  rw [hq, rx_at h r R (by decide)]
  show (if (0 = 0 ∧ (0 = 0 ∨ 0 = 1)) ∧ h.1.1 ≤ r + 1 then (if (¬ (0 : Int32) < 0 ∧ ¬ (0 : Int32) < 0 ∧ ¬ (8 : Int32) < 0) ∧ (0 : Int32).toNatClampNeg + (8 : Int32).toNatClampNeg ≤ 8 ∧ (0 : Int32).toNatClampNeg + (8 : Int32).toNatClampNeg ≤ 8 then (some (.inl none, cz_set (rx_set h r R) (r + 1) (.inr (0, 8, .inl (va_cpy (S.2.2 6) (R.2.2 6) (0 : Int32).toNatClampNeg (0 : Int32).toNatClampNeg (8 : Int32).toNatClampNeg)))) : cz_Z) else none) else none) = _
  refine (if_pos ⟨⟨rfl, Or.inl rfl⟩, Nat.le_add_right_of_le hb⟩).trans ((if_pos (by decide)).trans ?_)
  rw [rx_put h r R (rx_B R 6 (va_cpy (S.2.2 6) (R.2.2 6) 0 0 8)) (k := 1) (by decide)]
  · rfl
  · intro x hq0 hq
    match x, hq0, hq with
    | 0, _, _ => rfl
    | 1, _, hq => exact absurd rfl hq
    | 2, _, _ => rfl
    | 3, _, _ => rfl
    | 4, _, _ => rfl
    | 5, _, _ => rfl
    | 6, _, _ => rfl
    | 7, _, _ => rfl
    | x + 8, hq, _ => exact absurd hq (by omega)
theorem rh_at {kk : Option Nat → cz_Z} (hi : rx_in h q S) (ha : rx_apart r q) : cz_getR (rx_set h r R) (some q) [(3, 6)] kk = kk (some (q + 1)) := pc_getR (V := rx_fld q S) (hi.over (R := R) ha 0 (by decide)) rfl rfl
theorem rc_cloth (hb : h.1.1 ≤ r) (hi : rx_in h q S) (ha : rx_apart r q) : fn_X3_copy (some (q + 2)) (some (r + 2)) (rx_set h r R) = some (.inl none, rx_set h r (rx_B R 7 (va_cpy (S.2.2 7) (R.2.2 7) 0 0 8))) := by
  have hq := hi.over (R := R) ha 2 (by decide)
  rw [fn_X3_copy, ra_cloth]
  unfold cz_acp cz_arr
  dsimp only
  rw [hq, rx_at h r R (by decide)]
  show (if (0 = 0 ∧ (0 = 0 ∨ 0 = 1)) ∧ h.1.1 ≤ r + 2 then (if (¬ (0 : Int32) < 0 ∧ ¬ (0 : Int32) < 0 ∧ ¬ (8 : Int32) < 0) ∧ (0 : Int32).toNatClampNeg + (8 : Int32).toNatClampNeg ≤ 8 ∧ (0 : Int32).toNatClampNeg + (8 : Int32).toNatClampNeg ≤ 8 then (some (.inl none, cz_set (rx_set h r R) (r + 2) (.inr (0, 8, .inl (va_cpy (S.2.2 7) (R.2.2 7) (0 : Int32).toNatClampNeg (0 : Int32).toNatClampNeg (8 : Int32).toNatClampNeg)))) : cz_Z) else none) else none) = _
  refine (if_pos ⟨⟨rfl, Or.inl rfl⟩, Nat.le_add_right_of_le hb⟩).trans ((if_pos (by decide)).trans ?_)
  rw [rx_put h r R (rx_B R 7 (va_cpy (S.2.2 7) (R.2.2 7) 0 0 8)) (k := 2) (by decide)]
  · rfl
  · intro x hq0 hq
    match x, hq0, hq with
    | 0, _, _ => rfl
    | 1, _, _ => rfl
    | 2, _, hq => exact absurd rfl hq
    | 3, _, _ => rfl
    | 4, _, _ => rfl
    | 5, _, _ => rfl
    | 6, _, _ => rfl
    | 7, _, _ => rfl
    | x + 8, hq, _ => exact absurd hq (by omega)
theorem rh_cloth {kk : Option Nat → cz_Z} (hi : rx_in h q S) (ha : rx_apart r q) : cz_getR (rx_set h r R) (some q) [(3, 7)] kk = kk (some (q + 2)) := pc_getR (V := rx_fld q S) (hi.over (R := R) ha 0 (by decide)) rfl rfl
theorem rc_user (hb : h.1.1 ≤ r) (hi : rx_in h q S) (ha : rx_apart r q) : fn_X3_copy (some (q + 3)) (some (r + 3)) (rx_set h r R) = some (.inl none, rx_set h r (rx_B R 8 (va_cpy (S.2.2 8) (R.2.2 8) 0 0 8))) := by
  have hq := hi.over (R := R) ha 3 (by decide)
  rw [fn_X3_copy, ra_user]
  unfold cz_acp cz_arr
  dsimp only
  rw [hq, rx_at h r R (by decide)]
  show (if (0 = 0 ∧ (0 = 0 ∨ 0 = 1)) ∧ h.1.1 ≤ r + 3 then (if (¬ (0 : Int32) < 0 ∧ ¬ (0 : Int32) < 0 ∧ ¬ (8 : Int32) < 0) ∧ (0 : Int32).toNatClampNeg + (8 : Int32).toNatClampNeg ≤ 8 ∧ (0 : Int32).toNatClampNeg + (8 : Int32).toNatClampNeg ≤ 8 then (some (.inl none, cz_set (rx_set h r R) (r + 3) (.inr (0, 8, .inl (va_cpy (S.2.2 8) (R.2.2 8) (0 : Int32).toNatClampNeg (0 : Int32).toNatClampNeg (8 : Int32).toNatClampNeg)))) : cz_Z) else none) else none) = _
  refine (if_pos ⟨⟨rfl, Or.inl rfl⟩, Nat.le_add_right_of_le hb⟩).trans ((if_pos (by decide)).trans ?_)
  rw [rx_put h r R (rx_B R 8 (va_cpy (S.2.2 8) (R.2.2 8) 0 0 8)) (k := 3) (by decide)]
  · rfl
  · intro x hq0 hq
    match x, hq0, hq with
    | 0, _, _ => rfl
    | 1, _, _ => rfl
    | 2, _, _ => rfl
    | 3, _, hq => exact absurd rfl hq
    | 4, _, _ => rfl
    | 5, _, _ => rfl
    | 6, _, _ => rfl
    | 7, _, _ => rfl
    | x + 8, hq, _ => exact absurd hq (by omega)
theorem rh_user {kk : Option Nat → cz_Z} (hi : rx_in h q S) (ha : rx_apart r q) : cz_getR (rx_set h r R) (some q) [(3, 8)] kk = kk (some (q + 3)) := pc_getR (V := rx_fld q S) (hi.over (R := R) ha 0 (by decide)) rfl rfl
theorem rc_since (hb : h.1.1 ≤ r) (hi : rx_in h q S) (ha : rx_apart r q) : fn_X3_copy (some (q + 4)) (some (r + 4)) (rx_set h r R) = some (.inl none, rx_set h r (rx_B R 9 (va_cpy (S.2.2 9) (R.2.2 9) 0 0 8))) := by
  have hq := hi.over (R := R) ha 4 (by decide)
  rw [fn_X3_copy, ra_since]
  unfold cz_acp cz_arr
  dsimp only
  rw [hq, rx_at h r R (by decide)]
  show (if (0 = 0 ∧ (0 = 0 ∨ 0 = 1)) ∧ h.1.1 ≤ r + 4 then (if (¬ (0 : Int32) < 0 ∧ ¬ (0 : Int32) < 0 ∧ ¬ (8 : Int32) < 0) ∧ (0 : Int32).toNatClampNeg + (8 : Int32).toNatClampNeg ≤ 8 ∧ (0 : Int32).toNatClampNeg + (8 : Int32).toNatClampNeg ≤ 8 then (some (.inl none, cz_set (rx_set h r R) (r + 4) (.inr (0, 8, .inl (va_cpy (S.2.2 9) (R.2.2 9) (0 : Int32).toNatClampNeg (0 : Int32).toNatClampNeg (8 : Int32).toNatClampNeg)))) : cz_Z) else none) else none) = _
  refine (if_pos ⟨⟨rfl, Or.inl rfl⟩, Nat.le_add_right_of_le hb⟩).trans ((if_pos (by decide)).trans ?_)
  rw [rx_put h r R (rx_B R 9 (va_cpy (S.2.2 9) (R.2.2 9) 0 0 8)) (k := 4) (by decide)]
  · rfl
  · intro x hq0 hq
    match x, hq0, hq with
    | 0, _, _ => rfl
    | 1, _, _ => rfl
    | 2, _, _ => rfl
    | 3, _, _ => rfl
    | 4, _, hq => exact absurd rfl hq
    | 5, _, _ => rfl
    | 6, _, _ => rfl
    | 7, _, _ => rfl
    | x + 8, hq, _ => exact absurd hq (by omega)
theorem rh_since {kk : Option Nat → cz_Z} (hi : rx_in h q S) (ha : rx_apart r q) : cz_getR (rx_set h r R) (some q) [(3, 9)] kk = kk (some (q + 4)) := pc_getR (V := rx_fld q S) (hi.over (R := R) ha 0 (by decide)) rfl rfl
theorem rc_queue (hb : h.1.1 ≤ r) (hi : rx_in h q S) (ha : rx_apart r q) : fn_X3_copy (some (q + 5)) (some (r + 5)) (rx_set h r R) = some (.inl none, rx_set h r (rx_B R 10 (va_cpy (S.2.2 10) (R.2.2 10) 0 0 8))) := by
  have hq := hi.over (R := R) ha 5 (by decide)
  rw [fn_X3_copy, ra_queue]
  unfold cz_acp cz_arr
  dsimp only
  rw [hq, rx_at h r R (by decide)]
  show (if (0 = 0 ∧ (0 = 0 ∨ 0 = 1)) ∧ h.1.1 ≤ r + 5 then (if (¬ (0 : Int32) < 0 ∧ ¬ (0 : Int32) < 0 ∧ ¬ (8 : Int32) < 0) ∧ (0 : Int32).toNatClampNeg + (8 : Int32).toNatClampNeg ≤ 8 ∧ (0 : Int32).toNatClampNeg + (8 : Int32).toNatClampNeg ≤ 8 then (some (.inl none, cz_set (rx_set h r R) (r + 5) (.inr (0, 8, .inl (va_cpy (S.2.2 10) (R.2.2 10) (0 : Int32).toNatClampNeg (0 : Int32).toNatClampNeg (8 : Int32).toNatClampNeg)))) : cz_Z) else none) else none) = _
  refine (if_pos ⟨⟨rfl, Or.inl rfl⟩, Nat.le_add_right_of_le hb⟩).trans ((if_pos (by decide)).trans ?_)
  rw [rx_put h r R (rx_B R 10 (va_cpy (S.2.2 10) (R.2.2 10) 0 0 8)) (k := 5) (by decide)]
  · rfl
  · intro x hq0 hq
    match x, hq0, hq with
    | 0, _, _ => rfl
    | 1, _, _ => rfl
    | 2, _, _ => rfl
    | 3, _, _ => rfl
    | 4, _, _ => rfl
    | 5, _, hq => exact absurd rfl hq
    | 6, _, _ => rfl
    | 7, _, _ => rfl
    | x + 8, hq, _ => exact absurd hq (by omega)
theorem rh_queue {kk : Option Nat → cz_Z} (hi : rx_in h q S) (ha : rx_apart r q) : cz_getR (rx_set h r R) (some q) [(3, 10)] kk = kk (some (q + 5)) := pc_getR (V := rx_fld q S) (hi.over (R := R) ha 0 (by decide)) rfl rfl
theorem rc_harm (hb : h.1.1 ≤ r) (hi : rx_in h q S) (ha : rx_apart r q) : fn_X3_copy (some (q + 6)) (some (r + 6)) (rx_set h r R) = some (.inl none, rx_set h r (rx_B R 11 (va_cpy (S.2.2 11) (R.2.2 11) 0 0 6))) := by
  have hq := hi.over (R := R) ha 6 (by decide)
  rw [fn_X3_copy, ra_harm]
  unfold cz_acp cz_arr
  dsimp only
  rw [hq, rx_at h r R (by decide)]
  show (if (0 = 0 ∧ (0 = 0 ∨ 0 = 1)) ∧ h.1.1 ≤ r + 6 then (if (¬ (0 : Int32) < 0 ∧ ¬ (0 : Int32) < 0 ∧ ¬ (6 : Int32) < 0) ∧ (0 : Int32).toNatClampNeg + (6 : Int32).toNatClampNeg ≤ 6 ∧ (0 : Int32).toNatClampNeg + (6 : Int32).toNatClampNeg ≤ 6 then (some (.inl none, cz_set (rx_set h r R) (r + 6) (.inr (0, 6, .inl (va_cpy (S.2.2 11) (R.2.2 11) (0 : Int32).toNatClampNeg (0 : Int32).toNatClampNeg (6 : Int32).toNatClampNeg)))) : cz_Z) else none) else none) = _
  refine (if_pos ⟨⟨rfl, Or.inl rfl⟩, Nat.le_add_right_of_le hb⟩).trans ((if_pos (by decide)).trans ?_)
  rw [rx_put h r R (rx_B R 11 (va_cpy (S.2.2 11) (R.2.2 11) 0 0 6)) (k := 6) (by decide)]
  · rfl
  · intro x hq0 hq
    match x, hq0, hq with
    | 0, _, _ => rfl
    | 1, _, _ => rfl
    | 2, _, _ => rfl
    | 3, _, _ => rfl
    | 4, _, _ => rfl
    | 5, _, _ => rfl
    | 6, _, hq => exact absurd rfl hq
    | 7, _, _ => rfl
    | x + 8, hq, _ => exact absurd hq (by omega)
theorem rh_harm {kk : Option Nat → cz_Z} (hi : rx_in h q S) (ha : rx_apart r q) : cz_getR (rx_set h r R) (some q) [(3, 11)] kk = kk (some (q + 6)) := pc_getR (V := rx_fld q S) (hi.over (R := R) ha 0 (by decide)) rfl rfl
theorem rc_ruled (hb : h.1.1 ≤ r) (hi : rx_in h q S) (ha : rx_apart r q) : fn_X3_copy (some (q + 7)) (some (r + 7)) (rx_set h r R) = some (.inl none, rx_set h r (rx_B R 12 (va_cpy (S.2.2 12) (R.2.2 12) 0 0 6))) := by
  have hq := hi.over (R := R) ha 7 (by decide)
  rw [fn_X3_copy, ra_ruled]
  unfold cz_acp cz_arr
  dsimp only
  rw [hq, rx_at h r R (by decide)]
  show (if (0 = 0 ∧ (0 = 0 ∨ 0 = 1)) ∧ h.1.1 ≤ r + 7 then (if (¬ (0 : Int32) < 0 ∧ ¬ (0 : Int32) < 0 ∧ ¬ (6 : Int32) < 0) ∧ (0 : Int32).toNatClampNeg + (6 : Int32).toNatClampNeg ≤ 6 ∧ (0 : Int32).toNatClampNeg + (6 : Int32).toNatClampNeg ≤ 6 then (some (.inl none, cz_set (rx_set h r R) (r + 7) (.inr (0, 6, .inl (va_cpy (S.2.2 12) (R.2.2 12) (0 : Int32).toNatClampNeg (0 : Int32).toNatClampNeg (6 : Int32).toNatClampNeg)))) : cz_Z) else none) else none) = _
  refine (if_pos ⟨⟨rfl, Or.inl rfl⟩, Nat.le_add_right_of_le hb⟩).trans ((if_pos (by decide)).trans ?_)
  rw [rx_put h r R (rx_B R 12 (va_cpy (S.2.2 12) (R.2.2 12) 0 0 6)) (k := 7) (by decide)]
  · rfl
  · intro x hq0 hq
    match x, hq0, hq with
    | 0, _, _ => rfl
    | 1, _, _ => rfl
    | 2, _, _ => rfl
    | 3, _, _ => rfl
    | 4, _, _ => rfl
    | 5, _, _ => rfl
    | 6, _, _ => rfl
    | 7, _, hq => exact absurd rfl hq
    | x + 8, hq, _ => exact absurd hq (by omega)
theorem rh_ruled {kk : Option Nat → cz_Z} (hi : rx_in h q S) (ha : rx_apart r q) : cz_getR (rx_set h r R) (some q) [(3, 12)] kk = kk (some (q + 7)) := pc_getR (V := rx_fld q S) (hi.over (R := R) ha 0 (by decide)) rfl rfl
theorem rh_c {kk : Option Nat → cz_Z} (hi : rx_in h q S) (ha : rx_apart r q) : cz_getR (rx_set h r R) (some q) [(3, 0)] kk = kk S.1 := pc_getR (V := rx_fld q S) (hi.over (R := R) ha 0 (by decide)) rfl rfl
theorem rh_day {kk : Int32 → cz_Z} (hi : rx_in h q S) (ha : rx_apart r q) : cz_getI (rx_set h r R) (some q) [(3, 1)] kk = kk (S.2.1 1) := pc_getI (V := rx_fld q S) (hi.over (R := R) ha 0 (by decide)) rfl rfl
theorem rh_bares {kk : Int32 → cz_Z} (hi : rx_in h q S) (ha : rx_apart r q) : cz_getI (rx_set h r R) (some q) [(3, 2)] kk = kk (S.2.1 2) := pc_getI (V := rx_fld q S) (hi.over (R := R) ha 0 (by decide)) rfl rfl
theorem rh_firstBare {kk : Int32 → cz_Z} (hi : rx_in h q S) (ha : rx_apart r q) : cz_getI (rx_set h r R) (some q) [(3, 3)] kk = kk (S.2.1 3) := pc_getI (V := rx_fld q S) (hi.over (R := R) ha 0 (by decide)) rfl rfl
theorem rh_eaten {kk : Int32 → cz_Z} (hi : rx_in h q S) (ha : rx_apart r q) : cz_getI (rx_set h r R) (some q) [(3, 4)] kk = kk (S.2.1 4) := pc_getI (V := rx_fld q S) (hi.over (R := R) ha 0 (by decide)) rfl rfl
theorem rh_queued {kk : Int32 → cz_Z} (hi : rx_in h q S) (ha : rx_apart r q) : cz_getI (rx_set h r R) (some q) [(3, 5)] kk = kk (S.2.1 5) := pc_getI (V := rx_fld q S) (hi.over (R := R) ha 0 (by decide)) rfl rfl
/-- R as S -/
def rx_as (R S : rx_R) : rx_R := rx_B (rx_B (rx_B (rx_B (rx_B (rx_B (rx_B (rx_I (rx_I (rx_I (rx_I (rx_I (rx_C R S.1) 1 (S.2.1 1)) 2 (S.2.1 2)) 3 (S.2.1 3)) 4 (S.2.1 4)) 5 (S.2.1 5)) 6 (va_cpy (S.2.2 6) (R.2.2 6) 0 0 8)) 7 (va_cpy (S.2.2 7) (R.2.2 7) 0 0 8)) 8 (va_cpy (S.2.2 8) (R.2.2 8) 0 0 8)) 9 (va_cpy (S.2.2 9) (R.2.2 9) 0 0 8)) 10 (va_cpy (S.2.2 10) (R.2.2 10) 0 0 8)) 11 (va_cpy (S.2.2 11) (R.2.2 11) 0 0 6)) 12 (va_cpy (S.2.2 12) (R.2.2 12) 0 0 6)
theorem rm_as (hb : h.1.1 ≤ r) (hi : rx_in h q S) (ha : rx_apart r q) : fn_X3_as (some r) (some q) (rx_set h r R) = some (.inl (some (cz_r (some r))), rx_set h r (rx_as R S)) := by
  rw [fn_X3_as]
  simp only [rh_c hi ha, rh_day hi ha, rh_bares hi ha, rh_firstBare hi ha, rh_eaten hi ha, rh_queued hi ha, rp_c hb, rp_day hb, rp_bares hb, rp_firstBare hb, rp_eaten hb, rp_queued hb, rh_at hi ha, rr_at, rc_at hb hi ha, rh_cloth hi ha, rr_cloth, rc_cloth hb hi ha, rh_user hi ha, rr_user, rc_user hb hi ha, rh_since hi ha, rr_since, rc_since hb hi ha, rh_queue hi ha, rr_queue, rc_queue hb hi ha, rh_harm hi ha, rr_harm, rc_harm hb hi ha, rh_ruled hi ha, rr_ruled, rc_ruled hb hi ha, px_cV, rx_I3]
  rfl
end RXO
