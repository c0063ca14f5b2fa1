/-! THE PLAIN LAW, 12: a Reign's questions -/
set_option maxRecDepth 100000
/-- the Reign R is the one of the row s -/
def rx_ok (R : rx_R) (s : Nat → Int32) : Prop := R.2.1 1 = s 62 ∧ R.2.1 2 = s 63 ∧ R.2.1 3 = s 64 - 1 ∧ R.2.1 4 = sp_coatsAt s 30 ∧ R.2.1 5 = s 117 ∧
  (∀ k, k < sp_n s 2 → R.2.2 6 k = s (65 + k) ∧ R.2.2 7 k = s (81 + k) ∧ R.2.2 8 k = s (73 + k) ∧ (10 ≤ s (65 + k) → s (65 + k) ≤ 17 → R.2.2 9 k = s 62 - s (89 + k))) ∧
  (∀ k, k < sp_n s 117 → R.2.2 10 k = s (109 + k)) ∧ ∀ k, k < sp_n s 1 → R.2.2 11 k = s (97 + k) ∧ R.2.2 12 k = s (103 + k)
section RXB
variable {h : cz_H} {r c : Nat} {R : rx_R} {s : Nat → Int32} {nm : Nat → Int64}
theorem rm_coats (hr : R.1 = some c) (hC : pc_Cap (rx_set h r R).2.2.2 c s nm) : fn_X3_coats (some r) (rx_set h r R) = some (.inl (some (cz_i (Int32.ofNat (sp_n s 2)))), rx_set h r R) := by
  obtain ⟨V, ls, lm, lc, f0, f1, g0, g1, v1, v2, v3, v4, v5, v6, v7, v8, v9, v10, v11, v12, v13, v14, l1, l2, l3⟩ := hC
  rw [fn_X3_coats, rg_c, hr, pc_getR v1 v9 rfl, pc_lrc l3, pc_size l3, px_cI]
theorem rm_men (hr : R.1 = some c) (hC : pc_Cap (rx_set h r R).2.2.2 c s nm) : fn_X3_men (some r) (rx_set h r R) = some (.inl (some (cz_i (Int32.ofNat (sp_n s 1)))), rx_set h r R) := by
  obtain ⟨V, ls, lm, lc, f0, f1, g0, g1, v1, v2, v3, v4, v5, v6, v7, v8, v9, v10, v11, v12, v13, v14, l1, l2, l3⟩ := hC
  rw [fn_X3_men, rg_c, hr, pc_getR v1 v8 rfl, pc_lrc l2, pc_size l2, px_cI]
theorem rm_seats (hr : R.1 = some c) (hC : pc_Cap (rx_set h r R).2.2.2 c s nm) : fn_X3_seats (some r) (rx_set h r R) = some (.inl (some (cz_i (Int32.ofNat (sp_n s 0)))), rx_set h r R) := by
  obtain ⟨V, ls, lm, lc, f0, f1, g0, g1, v1, v2, v3, v4, v5, v6, v7, v8, v9, v10, v11, v12, v13, v14, l1, l2, l3⟩ := hC
  rw [fn_X3_seats, rg_c, hr, pc_getR v1 v7 rfl, pc_lrc l1, pc_size l1, px_cI]
theorem rm_on_2 {x : Int32} {k0 : Int32 → cz_H → cz_Z} {k1 : cz_H → cz_Z} (ok : sp_ok s) (hr : R.1 = some c) (hC : pc_Cap (rx_set h r R).2.2.2 c s nm) (hR : rx_ok R s) : ∀ (n f k : Nat), k + n = sp_n s 2 → n < f → fn_X3_on_2 (some r) x k0 k1 f (Int32.ofNat k) (rx_set h r R) = if sp_first (fun c => decide (s (65 + c) = 10 + x)) n k = -1 then k1 (rx_set h r R) else k0 (sp_first (fun c => decide (s (65 + c) = 10 + x)) n k) (rx_set h r R) := by
  have h8 := ok.2.2.1.2
  intro n
  induction n with
  | zero =>
    intro f k hk hf
    obtain ⟨f, rfl⟩ : ∃ g, f = g + 1 := ⟨f - 1, by omega⟩
    rw [fn_X3_on_2]
    simp (disch := omega) only [rx_rc, rg_c, rg_day, rg_bares, rg_firstBare, rg_eaten, rg_queued, rg_seed, rp_c, rp_day, rp_bares, rp_firstBare, rp_eaten, rp_queued, rp_seed, rr_at, rl_at, rs_at, ra_at, rr_cloth, rl_cloth, rs_cloth, ra_cloth, rr_user, rl_user, rs_user, ra_user, rr_since, rl_since, rs_since, ra_since, rr_queue, rl_queue, rs_queue, ra_queue, rr_harm, rl_harm, rs_harm, ra_harm, rr_ruled, rl_ruled, rs_ruled, ra_ruled, px_c1r, px_cI, px_cR, px_cV, px_ckz, px_ckz0, px_ckz1, cz_leti, cz_jn, rm_coats hr hC]
    rw [if_pos (by rw [px_le (by omega) (by omega)]; omega)]
    rfl
  | succ n ih =>
    intro f k hk hf
    obtain ⟨f, rfl⟩ : ∃ g, f = g + 1 := ⟨f - 1, by omega⟩
    rw [fn_X3_on_2]
    simp (disch := omega) only [rx_rc, rg_c, rg_day, rg_bares, rg_firstBare, rg_eaten, rg_queued, rg_seed, rp_c, rp_day, rp_bares, rp_firstBare, rp_eaten, rp_queued, rp_seed, rr_at, rl_at, rs_at, ra_at, rr_cloth, rl_cloth, rs_cloth, ra_cloth, rr_user, rl_user, rs_user, ra_user, rr_since, rl_since, rs_since, ra_since, rr_queue, rl_queue, rs_queue, ra_queue, rr_harm, rl_harm, rs_harm, ra_harm, rr_ruled, rl_ruled, rs_ruled, ra_ruled, px_c1r, px_cI, px_cR, px_cV, px_ckz, px_ckz0, px_ckz1, cz_leti, cz_jn, rm_coats hr hC, ih, sp_first, decide_eq_true_eq]
    rw [if_neg (by rw [px_le (by omega) (by omega)]; omega), (hR.2.2.2.2.2.1 k (by omega)).1]
    split
    · rw [if_neg (px_pos (by omega))]
    · rfl
theorem rm_on {x : Int32} (ok : sp_ok s) (hr : R.1 = some c) (hC : pc_Cap (rx_set h r R).2.2.2 c s nm) (hR : rx_ok R s) : fn_X3_on (some r) x (rx_set h r R) = some (.inl (some (cz_i (sp_coatOn s x))), rx_set h r R) := by
  have h8 := ok.2.2.1.2
  rw [fn_X3_on]
  refine (rm_on_2 ok hr hC hR (sp_n s 2) 1000 0 (Nat.zero_add _) (by omega)).trans ?_
  unfold sp_coatOn
  split
  · rename_i e
    rw [e]
  · rfl
theorem rm_owner {x : Int32} (ok : sp_ok s) (hr : R.1 = some c) (hC : pc_Cap (rx_set h r R).2.2.2 c s nm) (hR : rx_ok R s) : fn_X3_owner (some r) x (rx_set h r R) = some (.inl (some (cz_i (sp_whoseOn s x))), rx_set h r R) := by
  have h8 := ok.2.2.1.2
  rw [fn_X3_owner]
  simp (disch := omega) only [rx_rc, rg_c, rg_day, rg_bares, rg_firstBare, rg_eaten, rg_queued, rg_seed, rp_c, rp_day, rp_bares, rp_firstBare, rp_eaten, rp_queued, rp_seed, rr_at, rl_at, rs_at, ra_at, rr_cloth, rl_cloth, rs_cloth, ra_cloth, rr_user, rl_user, rs_user, ra_user, rr_since, rl_since, rs_since, ra_since, rr_queue, rl_queue, rs_queue, ra_queue, rr_harm, rl_harm, rs_harm, ra_harm, rr_ruled, rl_ruled, rs_ruled, ra_ruled, px_c1r, px_cI, px_cR, px_cV, px_ckz, px_ckz0, px_ckz1, cz_leti, cz_jn, rm_on ok hr hC hR, hr]
  unfold sp_whoseOn
  obtain ⟨V, ls, lm, lc, f0, f1, g0, g1, v1, v2, v3, v4, v5, v6, v7, v8, v9, v10, v11, v12, v13, v14, l1, l2, l3⟩ := hC
  rcases sp_coatOn_is s x with e | ⟨y, h1, -, e⟩
  · rw [e, if_pos rfl]; rfl
  · obtain ⟨u, u1, U, st, w, w1, w2, w3, -⟩ := pc_get l3 h1 (by omega)
    rw [e, if_neg (px_pos (by omega)), if_pos (px_nn y (by omega)), pc_getR v1 v9 rfl, pc_lrc l3, u1, px_cR, pc_cast w1 (by decide), pc_getI w1 w3 rfl, Int32.toNatClampNeg_ofNat_of_lt (show y < 2 ^ 31 by omega)]
theorem rm_wornBy_4 {x : Int32} {k0 : Int32 → cz_H → cz_Z} (ok : sp_ok s) (hr : R.1 = some c) (hC : pc_Cap (rx_set h r R).2.2.2 c s nm) (hR : rx_ok R s) : ∀ (n f k : Nat) (a : Int32), k + n = sp_n s 2 → n < f → fn_X3_wornBy_4 (some r) x k0 f a (Int32.ofNat k) (rx_set h r R) = k0 (sp_fold (fun c a => if s (65 + c) = x then a ||| ((1 : Int32) <<< (Int32.ofNat c &&& 31)) else a) n k a) (rx_set h r R) := by
  have h8 := ok.2.2.1.2
  intro n
  induction n with
  | zero =>
    intro f k a hk hf
    obtain ⟨f, rfl⟩ : ∃ g, f = g + 1 := ⟨f - 1, by omega⟩
    rw [fn_X3_wornBy_4]
    simp (disch := omega) only [rx_rc, rg_c, rg_day, rg_bares, rg_firstBare, rg_eaten, rg_queued, rg_seed, rp_c, rp_day, rp_bares, rp_firstBare, rp_eaten, rp_queued, rp_seed, rr_at, rl_at, rs_at, ra_at, rr_cloth, rl_cloth, rs_cloth, ra_cloth, rr_user, rl_user, rs_user, ra_user, rr_since, rl_since, rs_since, ra_since, rr_queue, rl_queue, rs_queue, ra_queue, rr_harm, rl_harm, rs_harm, ra_harm, rr_ruled, rl_ruled, rs_ruled, ra_ruled, px_c1r, px_cI, px_cR, px_cV, px_ckz, px_ckz0, px_ckz1, cz_leti, cz_jn, rm_coats hr hC]
    rw [if_pos (by rw [px_le (by omega) (by omega)]; omega)]
    rfl
  | succ n ih =>
    intro f k a hk hf
    obtain ⟨f, rfl⟩ : ∃ g, f = g + 1 := ⟨f - 1, by omega⟩
    rw [fn_X3_wornBy_4]
    simp (disch := omega) only [rx_rc, rg_c, rg_day, rg_bares, rg_firstBare, rg_eaten, rg_queued, rg_seed, rp_c, rp_day, rp_bares, rp_firstBare, rp_eaten, rp_queued, rp_seed, rr_at, rl_at, rs_at, ra_at, rr_cloth, rl_cloth, rs_cloth, ra_cloth, rr_user, rl_user, rs_user, ra_user, rr_since, rl_since, rs_since, ra_since, rr_queue, rl_queue, rs_queue, ra_queue, rr_harm, rl_harm, rs_harm, ra_harm, rr_ruled, rl_ruled, rs_ruled, ra_ruled, px_c1r, px_cI, px_cR, px_cV, px_ckz, px_ckz0, px_ckz1, cz_leti, cz_jn, rm_coats hr hC, ih, sp_fold]
    rw [if_neg (by rw [px_le (by omega) (by omega)]; omega), (hR.2.2.2.2.2.1 k (by omega)).1]
    split <;> rfl
theorem rm_wornBy {x : Int32} (ok : sp_ok s) (hr : R.1 = some c) (hC : pc_Cap (rx_set h r R).2.2.2 c s nm) (hR : rx_ok R s) : fn_X3_wornBy (some r) x (rx_set h r R) = some (.inl (some (cz_i (sp_coatsAt s x))), rx_set h r R) := by
  have h8 := ok.2.2.1.2
  rw [fn_X3_wornBy]
  exact rm_wornBy_4 ok hr hC hR (sp_n s 2) 1000 0 0 (Nat.zero_add _) (by omega)
end RXB
