/-! THE PLAIN LAW, 13: a Reign's questions, on -/
set_option maxRecDepth 100000
section RXC
variable {h : cz_H} {c : Nat} {s : Nat → Int32} {nm : Nat → Int64}
theorem pc_coatM {i : Nat} {K : Int32 → cz_H → cz_Z} (ok : sp_ok s) (hC : pc_Cap h.2.2.2 c s nm) (hi : i < sp_n s 2) : cz_getR h (some c) [(1, 8)] (fun r13 => cz_rc h r13 [2] (cz_cR (fn_J2_get r13 (Int32.ofNat i) h) (fun r21 h20 => cz_cast h20 r21 [11] (cz_getI h20 r21 [(11, 1)] (fun x22 => K x22 h20))))) = K (s (22 + i)) h := by
  have h8 := ok.2.2.1.2
  obtain ⟨V, ls, lm, lc, f0, f1, g0, g1, v1, v2, v3, v4, v5, v6, v7, v8, v9, v10, v11, v12, v13, v14, l1, l2, l3⟩ := hC
  obtain ⟨u, u1, U, st, w, w1, w2, w3, w4, w5, -⟩ := pc_get l3 hi (by omega)
  rw [pc_getR v1 v9 rfl, pc_lrc l3, u1, px_cR, pc_cast w1 (by decide), pc_getI w1 w3 rfl]
theorem pc_coatW {i : Nat} {K : Int32 → cz_H → cz_Z} (ok : sp_ok s) (hC : pc_Cap h.2.2.2 c s nm) (hi : i < sp_n s 2) : cz_getR h (some c) [(1, 8)] (fun r13 => cz_rc h r13 [2] (cz_cR (fn_J2_get r13 (Int32.ofNat i) h) (fun r21 h20 => cz_cast h20 r21 [11] (cz_getI h20 r21 [(11, 2)] (fun x22 => K x22 h20))))) = K (s (30 + i)) h := by
  have h8 := ok.2.2.1.2
  obtain ⟨V, ls, lm, lc, f0, f1, g0, g1, v1, v2, v3, v4, v5, v6, v7, v8, v9, v10, v11, v12, v13, v14, l1, l2, l3⟩ := hC
  obtain ⟨u, u1, U, st, w, w1, w2, w3, w4, w5, -⟩ := pc_get l3 hi (by omega)
  rw [pc_getR v1 v9 rfl, pc_lrc l3, u1, px_cR, pc_cast w1 (by decide), pc_getI w1 w4 rfl]
theorem pc_coatC {i : Nat} {K : Int32 → cz_H → cz_Z} (ok : sp_ok s) (hC : pc_Cap h.2.2.2 c s nm) (hi : i < sp_n s 2) : cz_getR h (some c) [(1, 8)] (fun r13 => cz_rc h r13 [2] (cz_cR (fn_J2_get r13 (Int32.ofNat i) h) (fun r21 h20 => cz_cast h20 r21 [11] (cz_getI h20 r21 [(11, 3)] (fun x22 => K x22 h20))))) = K (s (38 + i)) h := by
  have h8 := ok.2.2.1.2
  obtain ⟨V, ls, lm, lc, f0, f1, g0, g1, v1, v2, v3, v4, v5, v6, v7, v8, v9, v10, v11, v12, v13, v14, l1, l2, l3⟩ := hC
  obtain ⟨u, u1, U, st, w, w1, w2, w3, w4, w5, -⟩ := pc_get l3 hi (by omega)
  rw [pc_getR v1 v9 rfl, pc_lrc l3, u1, px_cR, pc_cast w1 (by decide), pc_getI w1 w5 rfl]
theorem pc_seatN {i : Nat} {K : Int32 → cz_H → cz_Z} (ok : sp_ok s) (hC : pc_Cap h.2.2.2 c s nm) (hi : i < sp_n s 0) : cz_getR h (some c) [(1, 6)] (fun r13 => cz_rc h r13 [2] (cz_cR (fn_J2_get r13 (Int32.ofNat i) h) (fun r21 h20 => cz_cast h20 r21 [10] (cz_getI h20 r21 [(10, 1)] (fun x22 => K x22 h20))))) = K (s (8 + i)) h := by
  have h8 := ok.1.2
  obtain ⟨V, ls, lm, lc, f0, f1, g0, g1, v1, v2, v3, v4, v5, v6, v7, v8, v9, v10, v11, v12, v13, v14, l1, l2, l3⟩ := hC
  obtain ⟨u, u1, U, st, w, w1, w2, w3, -⟩ := pc_get l1 hi (by omega)
  rw [pc_getR v1 v7 rfl, pc_lrc l1, u1, px_cR, pc_cast w1 (by decide), pc_getI w1 w3 rfl]
theorem pc_manN {i : Nat} {K : Int32 → cz_H → cz_Z} (ok : sp_ok s) (hC : pc_Cap h.2.2.2 c s nm) (hi : i < sp_n s 1) : cz_getR h (some c) [(1, 7)] (fun r13 => cz_rc h r13 [2] (cz_cR (fn_J2_get r13 (Int32.ofNat i) h) (fun r21 h20 => cz_cast h20 r21 [10] (cz_getI h20 r21 [(10, 1)] (fun x22 => K x22 h20))))) = K (s (16 + i)) h := by
  have h8 := ok.2.1.2
  obtain ⟨V, ls, lm, lc, f0, f1, g0, g1, v1, v2, v3, v4, v5, v6, v7, v8, v9, v10, v11, v12, v13, v14, l1, l2, l3⟩ := hC
  obtain ⟨u, u1, U, st, w, w1, w2, w3, -⟩ := pc_get l2 hi (by omega)
  rw [pc_getR v1 v8 rfl, pc_lrc l2, u1, px_cR, pc_cast w1 (by decide), pc_getI w1 w3 rfl]
theorem pc_crc {z : cz_Z} (hC : pc_Cap h.2.2.2 c s nm) : cz_rc h (some c) [1] z = z := by
  obtain ⟨V, ls, lm, lc, f0, f1, g0, g1, v1, -⟩ := hC
  exact pc_rc v1 (by decide)
theorem pc_isSummer {day : Int32} (ok : sp_ok s) (hC : pc_Cap h.2.2.2 c s nm) (hd : sp_colds s) : fn_X2_isSummer (some c) day h = some (.inl (some (cz_i (if sp_coldOn s day < s 3 then 1 else 0))), h) := by
  rw [fn_X2_isSummer, pc_crc hC, pc_cold ok hC hd, px_cI]
  obtain ⟨V, ls, lm, lc, f0, f1, g0, g1, v1, v2, v3, -⟩ := hC
  rw [pc_getI v1 v3 rfl]
  split
  · rename_i e
    rw [if_neg (Int32.not_lt.mpr e)]
  · rename_i e
    rw [if_pos (Int32.not_le.mp e)]
theorem pc_isOf {a x : Int32} {h : cz_H} : fn_X1_isOf a x h = some (.inl (some (cz_i (if ((a >>> (x &&& 31)) &&& 1) = 1 then 1 else 0))), h) := by
  rw [fn_X1_isOf]
  split <;> rfl
theorem pc_isIn {a x y : Int32} {h : cz_H} : fn_X1_isIn a x y h = some (.inl (some (cz_i (if x ≤ a ∧ a ≤ y then 1 else 0))), h) := by
  rw [fn_X1_isIn]
  by_cases h1 : a < x
  · rw [if_pos h1, if_neg (fun q => absurd h1 (Int32.not_lt.mpr q.1))]
  · rw [if_neg h1]
    by_cases h2 : y < a
    · rw [if_pos h2, if_neg (fun q => absurd h2 (Int32.not_lt.mpr q.2))]
    · rw [if_neg h2, if_pos ⟨Int32.not_lt.mp h1, Int32.not_lt.mp h2⟩]
theorem pc_max0 {x : Int32} {h : cz_H} : fn_J11_max 0 x h = some (.inl (some (cz_i (sp_max0 x))), h) := by
  rw [fn_J11_max]
  unfold sp_max0
  by_cases e : 0 < x
  · rw [if_pos e, if_pos (Int32.le_of_lt e)]
  · rw [if_neg e]
    by_cases e2 : 0 ≤ x
    · rw [if_pos e2, Int32.le_antisymm (Int32.not_lt.mp e) e2]
    · rw [if_neg e2]
theorem pc_square {x : Int32} {h : cz_H} : fn_X3_square x h = some (.inl (some (cz_i (x * x))), h) := rfl
end RXC
/-- a Reign at r, of the row s, in the Capital at c -/
def rx_is (h : cz_H) (r : Nat) (R : rx_R) (c : Nat) (s : Nat → Int32) (nm : Nat → Int64) : Prop := sp_ok s ∧ sp_colds s ∧ R.1 = some c ∧ pc_Cap (rx_set h r R).2.2.2 c s nm ∧ rx_ok R s
section RXD
variable {h : cz_H} {r c : Nat} {R : rx_R} {s : Nat → Int32} {nm : Nat → Int64}
theorem rm_holder {x : Int32} (H : rx_is h r R c s nm) : fn_X3_holder (some r) x (rx_set h r R) = some (.inl (some (cz_i (sp_holder s x))), rx_set h r R) := by
  obtain ⟨ok, hd, hr, hC, hR⟩ := H
  rw [fn_X3_holder]
  simp (disch := omega) only [rx_rc, rg_c, rg_day, rg_bares, rg_firstBare, rg_eaten, rg_queued, rg_seed, rp_c, rp_day, rp_bares, rp_firstBare, rp_eaten, rp_queued, rp_seed, rr_at, rl_at, rs_at, ra_at, rr_cloth, rl_cloth, rs_cloth, ra_cloth, rr_user, rl_user, rs_user, ra_user, rr_since, rl_since, rs_since, ra_since, rr_queue, rl_queue, rs_queue, ra_queue, rr_harm, rl_harm, rs_harm, ra_harm, rr_ruled, rl_ruled, rs_ruled, ra_ruled, px_c1r, px_cI, px_cR, px_cV, px_ckz, px_ckz0, px_ckz1, cz_leti, cz_jn, hr, hR.1, pc_crc hC, pc_isSummer ok hC hd, rm_owner ok hr hC hR, px_e0, ite_not]
  unfold sp_holder
  split <;> rfl
theorem rm_warmth_4 {x : Int32} {k0 : Int32 → cz_H → cz_Z} (H : rx_is h r R c s nm) : ∀ (n f k : Nat) (a : Int32), k + n = sp_n s 2 → n < f → fn_X3_warmth_4 (some r) x k0 f a (Int32.ofNat k) (rx_set h r R) = k0 (sp_fold (fun c n => if ((x >>> (Int32.ofNat c &&& 31)) &&& 1) = 1 then n + s (30 + c) else n) n k a) (rx_set h r R) := by
  obtain ⟨ok, hd, hr, hC, hR⟩ := H
  have h8 := ok.2.2.1.2
  intro n
  induction n with
  | zero =>
    intro f k a hk hf
    obtain ⟨f, rfl⟩ : ∃ g, f = g + 1 := ⟨f - 1, by omega⟩
    rw [fn_X3_warmth_4]
    simp (disch := omega) only [rx_rc, rg_c, rg_day, rg_bares, rg_firstBare, rg_eaten, rg_queued, rg_seed, rp_c, rp_day, rp_bares, rp_firstBare, rp_eaten, rp_queued, rp_seed, rr_at, rl_at, rs_at, ra_at, rr_cloth, rl_cloth, rs_cloth, ra_cloth, rr_user, rl_user, rs_user, ra_user, rr_since, rl_since, rs_since, ra_since, rr_queue, rl_queue, rs_queue, ra_queue, rr_harm, rl_harm, rs_harm, ra_harm, rr_ruled, rl_ruled, rs_ruled, ra_ruled, px_c1r, px_cI, px_cR, px_cV, px_ckz, px_ckz0, px_ckz1, cz_leti, cz_jn, rm_coats hr hC]
    rw [if_pos (by rw [px_le (by omega) (by omega)]; omega)]
    rfl
  | succ n ih =>
    intro f k a hk hf
    obtain ⟨f, rfl⟩ : ∃ g, f = g + 1 := ⟨f - 1, by omega⟩
    rw [fn_X3_warmth_4]
    simp (disch := omega) only [rx_rc, rg_c, rg_day, rg_bares, rg_firstBare, rg_eaten, rg_queued, rg_seed, rp_c, rp_day, rp_bares, rp_firstBare, rp_eaten, rp_queued, rp_seed, rr_at, rl_at, rs_at, ra_at, rr_cloth, rl_cloth, rs_cloth, ra_cloth, rr_user, rl_user, rs_user, ra_user, rr_since, rl_since, rs_since, ra_since, rr_queue, rl_queue, rs_queue, ra_queue, rr_harm, rl_harm, rs_harm, ra_harm, rr_ruled, rl_ruled, rs_ruled, ra_ruled, px_c1r, px_cI, px_cR, px_cV, px_ckz, px_ckz0, px_ckz1, cz_leti, cz_jn, rm_coats hr hC, pc_isOf, px_e0, ite_not, hr]
    rw [if_neg (by rw [px_le (by omega) (by omega)]; omega), pc_coatW (i := k) (K := fun x22 h20 => fn_X3_warmth_4 (some r) x k0 f (a + x22) (Int32.ofNat (k + 1)) h20) ok hC (by omega)]
    simp (disch := omega) only [ih, sp_fold]
    split <;> rfl
theorem rm_warmth {x : Int32} (H : rx_is h r R c s nm) : fn_X3_warmth (some r) x (rx_set h r R) = some (.inl (some (cz_i (sp_warmth s x))), rx_set h r R) := by
  have h8 := H.1.2.2.1.2
  rw [fn_X3_warmth]
  exact rm_warmth_4 H (sp_n s 2) 1000 0 0 (Nat.zero_add _) (by omega)
theorem rm_chill {k : Nat} {day a : Int32} (H : rx_is h r R c s nm) (hk : k < sp_n s 1) : fn_X3_chill (some r) (Int32.ofNat k) a day (rx_set h r R) = some (.inl (some (cz_i (sp_chillIn s k day a))), rx_set h r R) := by
  have H2 := H
  obtain ⟨ok, hd, hr, hC, hR⟩ := H
  rw [fn_X3_chill]
  simp (disch := omega) only [rx_rc, rg_c, rg_day, rg_bares, rg_firstBare, rg_eaten, rg_queued, rg_seed, rp_c, rp_day, rp_bares, rp_firstBare, rp_eaten, rp_queued, rp_seed, rr_at, rl_at, rs_at, ra_at, rr_cloth, rl_cloth, rs_cloth, ra_cloth, rr_user, rl_user, rs_user, ra_user, rr_since, rl_since, rs_since, ra_since, rr_queue, rl_queue, rs_queue, ra_queue, rr_harm, rl_harm, rs_harm, ra_harm, rr_ruled, rl_ruled, rs_ruled, ra_ruled, px_c1r, px_cI, px_cR, px_cV, px_ckz, px_ckz0, px_ckz1, cz_leti, cz_jn, hr, pc_crc hC, pc_cold ok hC hd]
  refine (pc_manN (K := fun x20 h18 => cz_rc h18 (some r) [3] (cz_cI (fn_X3_warmth (some r) a h18) (fun x28 h27 => cz_cI (fn_J11_max 0 ((sp_coldOn s day - x20) - x28) h27) (fun x30 h29 => some (.inl (some (cz_i x30)), h29))))) ok hC hk).trans ?_
  simp (disch := omega) only [rx_rc, rg_c, rg_day, rg_bares, rg_firstBare, rg_eaten, rg_queued, rg_seed, rp_c, rp_day, rp_bares, rp_firstBare, rp_eaten, rp_queued, rp_seed, rr_at, rl_at, rs_at, ra_at, rr_cloth, rl_cloth, rs_cloth, ra_cloth, rr_user, rl_user, rs_user, ra_user, rr_since, rl_since, rs_since, ra_since, rr_queue, rl_queue, rs_queue, ra_queue, rr_harm, rl_harm, rs_harm, ra_harm, rr_ruled, rl_ruled, rs_ruled, ra_ruled, px_c1r, px_cI, px_cR, px_cV, px_ckz, px_ckz0, px_ckz1, cz_leti, cz_jn, rm_warmth H2, pc_max0]
  rfl
theorem rm_ruler_22 {x y : Int32} {k0 : Int32 → cz_H → cz_Z} (H : rx_is h r R c s nm) : ∀ (n f k : Nat) (a : Int32), k + n = sp_n s 0 → n < f → fn_X3_ruler_22 (some r) y x k0 f a (Int32.ofNat k) (rx_set h r R) = k0 (sp_fold (fun j n => if (if y = 0 then sp_whoseOn s (Int32.ofNat j) else sp_holder s (Int32.ofNat j)) = x then n + s (8 + j) else n) n k a) (rx_set h r R) := by
  have H2 := H
  obtain ⟨ok, hd, hr, hC, hR⟩ := H
  have h8 := ok.1.2
  intro n
  induction n with
  | zero =>
    intro f k a hk hf
    obtain ⟨f, rfl⟩ : ∃ g, f = g + 1 := ⟨f - 1, by omega⟩
    rw [fn_X3_ruler_22]
    simp (disch := omega) only [rx_rc, rg_c, rg_day, rg_bares, rg_firstBare, rg_eaten, rg_queued, rg_seed, rp_c, rp_day, rp_bares, rp_firstBare, rp_eaten, rp_queued, rp_seed, rr_at, rl_at, rs_at, ra_at, rr_cloth, rl_cloth, rs_cloth, ra_cloth, rr_user, rl_user, rs_user, ra_user, rr_since, rl_since, rs_since, ra_since, rr_queue, rl_queue, rs_queue, ra_queue, rr_harm, rl_harm, rs_harm, ra_harm, rr_ruled, rl_ruled, rs_ruled, ra_ruled, px_c1r, px_cI, px_cR, px_cV, px_ckz, px_ckz0, px_ckz1, cz_leti, cz_jn, rm_seats hr hC]
    rw [if_pos (by rw [px_le (by omega) (by omega)]; omega)]
    rfl
  | succ n ih =>
    intro f k a hk hf
    obtain ⟨f, rfl⟩ : ∃ g, f = g + 1 := ⟨f - 1, by omega⟩
    rw [fn_X3_ruler_22]
    simp (disch := omega) only [rx_rc, rg_c, rg_day, rg_bares, rg_firstBare, rg_eaten, rg_queued, rg_seed, rp_c, rp_day, rp_bares, rp_firstBare, rp_eaten, rp_queued, rp_seed, rr_at, rl_at, rs_at, ra_at, rr_cloth, rl_cloth, rs_cloth, ra_cloth, rr_user, rl_user, rs_user, ra_user, rr_since, rl_since, rs_since, ra_since, rr_queue, rl_queue, rs_queue, ra_queue, rr_harm, rl_harm, rs_harm, ra_harm, rr_ruled, rl_ruled, rs_ruled, ra_ruled, px_c1r, px_cI, px_cR, px_cV, px_ckz, px_ckz0, px_ckz1, cz_leti, cz_jn, rm_seats hr hC, rm_owner ok hr hC hR, rm_holder H2, hr]
    rw [if_neg (by rw [px_le (by omega) (by omega)]; omega), pc_seatN (i := k) (K := fun x22 h20 => fn_X3_ruler_22 (some r) y x k0 f (a + x22) (Int32.ofNat (k + 1)) h20) ok hC (by omega)]
    simp (disch := omega) only [ih, sp_fold]
    by_cases ey : y = 0
    · rw [if_pos ey, if_pos ey]
      split <;> rfl
    · rw [if_neg ey, if_neg ey]
      split <;> rfl
end RXD
