/-! THE PLAIN LAW, 42: what a coat costs; two who share one -/
set_option maxRecDepth 100000
def sp_want (s : Nat → Int32) (p : Int32) : Nat → Nat → Nat → Nat := sp_fold (fun m a => if sp_chill s m * sp_chill s m ≤ p then a else a + 1)
def sp_wantA (s : Nat → Int32) (p : Nat) : Nat := sp_want s (Int32.ofNat p) (sp_n s 1) 0 0
theorem sp_want_le {s : Nat → Int32} {p : Int32} : ∀ (n k a : Nat), sp_want s p n k a ≤ a + n := by
  intro n
  induction n with
  | zero => intro k a; exact Nat.le_refl _
  | succ n ih =>
    intro k a
    have e : sp_want s p (n + 1) k a = sp_want s p n (k + 1) (if sp_chill s k * sp_chill s k ≤ p then a else a + 1) := rfl
    rw [e]
    have := ih (k + 1) (if sp_chill s k * sp_chill s k ≤ p then a else a + 1)
    split at this
    · rename_i q; rw [if_pos q]; omega
    · rename_i q; rw [if_neg q]; omega
/-- the next price -/
def sp_nx (s : Nat → Int32) (p : Nat) : Nat := if sp_n s 117 < sp_wantA s p then p + 1 else if sp_wantA s p < sp_n s 117 then p - 1 else p
def sp_rd (s : Nat → Int32) : Nat → Nat → Nat → Nat × Nat
  | 0, k, p => (k, p)
  | n + 1, k, p => if sp_nx s p = p then (k + 1, p) else sp_rd s n (k + 1) (sp_nx s p)
theorem px_IC {M : px_M} {i j : Nat} {a b : Int32} (h : i ≠ j) : px_I (px_I M i a) j b = px_I (px_I M j b) i a := by
  unfold px_I
  refine Prod.ext ?_ rfl
  funext q
  dsimp only
  by_cases e1 : q = j
  · rw [if_pos e1, if_neg (by omega), if_pos e1]
  · rw [if_neg e1, if_neg e1]
section RDA
variable {h g : cz_H} {x c m : Nat} {X : cx_X} {s : Nat → Int32} {nm : Nat → Int64} {M : px_M}
theorem pm_rounds_43 {p : Int32} {k0 : Int32 → cz_H → cz_Z} (ok : sp_ok s) : ∀ (n f k : Nat) (a : Nat), k + n = sp_n s 1 → n < f → fn_X5_rounds_43 (some m) p k0 f (Int32.ofNat a) (Int32.ofNat k) (px_set g m (px_S M s)) = k0 (Int32.ofNat (sp_want s p n k a)) (px_set g m (px_S M s)) := by
  have h6 := ok.2.1.2
  intro n
  induction n with
  | zero =>
    intro f k a hk hf
    obtain ⟨f, rfl⟩ : ∃ g, f = g + 1 := ⟨f - 1, by omega⟩
    rw [fn_X5_rounds_43]
    simp (disch := first | assumption | omega) only [qln, qsn, ql_0, ql_1, ql_2, ql_3, ql_4, ql_5, ql_6, ql_7, ql_62, qs_62, ql_63, qs_63, ql_64, qs_64, ql_117, qs_117, ql_118, qs_118, pl_h_0, ps_h_0, pl_h_1, ps_h_1, pl_h_2, ps_h_2, ps_h_4, ps_h_5, ps_h_6, pl_h_7, ps_h_7, ps_reserved_0, ps_reserved_1, ps_reserved_2, ps_reserved_3, ps_reserved_4, ps_reserved_5, ps_reserved_6, ps_reserved_7, ps_reserved_8, ps_reserved_9, ps_reserved_10, ps_reserved_11, ps_reserved_12, ps_reserved_13, ps_reserved_14, ps_reserved_15, ps_reserved_16, ps_reserved_17, ps_reserved_18, ps_reserved_19, ps_reserved_20, ps_reserved_21, ps_reserved_22, ps_reserved_23, pl_toldAt_0, ps_toldAt_0, pl_toldAt_1, ps_toldAt_1, ps_toldAt_2, ps_toldAt_3, pl_truths_0, px_c8, px_c10, px_c16, px_c20, px_c22, px_c30, px_c36, px_c38, px_c46, px_c54, px_c62, px_c65, px_c73, px_c81, px_c89, px_c97, px_c103, px_c109, px_c119, pr_tape, pln_tape, psn_tape, pr_s, pr_h, pln_h, psn_h, pr_read, pln_read, psn_read, pr_names, pln_names, psn_names, pr_reserved, pln_reserved, psn_reserved, pr_undone, pln_undone, psn_undone, pr_before, pln_before, psn_before, pr_sat, pln_sat, psn_sat, pr_toldAt, pln_toldAt, psn_toldAt, pr_stack, pln_stack, psn_stack, pr_truths, pln_truths, psn_truths, pr_kept, pln_kept, psn_kept, pr_namesKept, pln_namesKept, psn_namesKept, pr_areKept, pln_areKept, psn_areKept, px_c1r, px_rc, px_cI, px_cR, px_cV, px_ckz, px_ckz0, px_ckz1, px_getJ, px_putJ, cz_leti, cz_jn, pg_thrown, pp_thrown, pg_length, pp_length, pg_size, pp_size, pg_p, pp_p, pg_limit, pp_limit, pg_token, pp_token, pg_at, pp_at, pg_span, pp_span, pg_number, pp_number, pg_fault, pp_fault, pg_faultAt, pp_faultAt, pg_got, pp_got, pg_lines, pp_lines, pg_onces, pp_onces, pg_undoMany, pp_undoMany, pg_laidSet, pp_laidSet, pg_hasLaid, pp_hasLaid, pg_turnSet, pp_turnSet, pg_hasTurns, pp_hasTurns, pg_frostDay, pp_frostDay, pg_surelySet, pp_surelySet, pg_neverSet, pp_neverSet, pg_hasHooks, pp_hasHooks, pg_priceNow, pp_priceNow, pg_hasPrice, pp_hasPrice, pg_seed, pp_seed, pg_toldMany, pp_toldMany, pg_hasTold, pp_hasTold, pg_codes, pp_codes, pg_ones, pp_ones, pg_top, pp_top, pg_deep, pp_deep, pg_isWhole, pp_isWhole, px_SAne, px_SL, px_SI, px_SW, px_S1, px_S2, px_S4, px_S3]
    rw [ok.2.1.1, if_pos (by rw [px_le (by omega) (by omega)]; omega)]
    rfl
  | succ n ih =>
    intro f k a hk hf
    obtain ⟨f, rfl⟩ : ∃ g, f = g + 1 := ⟨f - 1, by omega⟩
    rw [fn_X5_rounds_43]
    have ch := pm_chill (h := g) (m := m) (M := M) (k := k) ok (by omega)
    simp (disch := first | assumption | omega) only [qln, qsn, ql_0, ql_1, ql_2, ql_3, ql_4, ql_5, ql_6, ql_7, ql_62, qs_62, ql_63, qs_63, ql_64, qs_64, ql_117, qs_117, ql_118, qs_118, pl_h_0, ps_h_0, pl_h_1, ps_h_1, pl_h_2, ps_h_2, ps_h_4, ps_h_5, ps_h_6, pl_h_7, ps_h_7, ps_reserved_0, ps_reserved_1, ps_reserved_2, ps_reserved_3, ps_reserved_4, ps_reserved_5, ps_reserved_6, ps_reserved_7, ps_reserved_8, ps_reserved_9, ps_reserved_10, ps_reserved_11, ps_reserved_12, ps_reserved_13, ps_reserved_14, ps_reserved_15, ps_reserved_16, ps_reserved_17, ps_reserved_18, ps_reserved_19, ps_reserved_20, ps_reserved_21, ps_reserved_22, ps_reserved_23, pl_toldAt_0, ps_toldAt_0, pl_toldAt_1, ps_toldAt_1, ps_toldAt_2, ps_toldAt_3, pl_truths_0, px_c8, px_c10, px_c16, px_c20, px_c22, px_c30, px_c36, px_c38, px_c46, px_c54, px_c62, px_c65, px_c73, px_c81, px_c89, px_c97, px_c103, px_c109, px_c119, pr_tape, pln_tape, psn_tape, pr_s, pr_h, pln_h, psn_h, pr_read, pln_read, psn_read, pr_names, pln_names, psn_names, pr_reserved, pln_reserved, psn_reserved, pr_undone, pln_undone, psn_undone, pr_before, pln_before, psn_before, pr_sat, pln_sat, psn_sat, pr_toldAt, pln_toldAt, psn_toldAt, pr_stack, pln_stack, psn_stack, pr_truths, pln_truths, psn_truths, pr_kept, pln_kept, psn_kept, pr_namesKept, pln_namesKept, psn_namesKept, pr_areKept, pln_areKept, psn_areKept, px_c1r, px_rc, px_cI, px_cR, px_cV, px_ckz, px_ckz0, px_ckz1, px_getJ, px_putJ, cz_leti, cz_jn, pg_thrown, pp_thrown, pg_length, pp_length, pg_size, pp_size, pg_p, pp_p, pg_limit, pp_limit, pg_token, pp_token, pg_at, pp_at, pg_span, pp_span, pg_number, pp_number, pg_fault, pp_fault, pg_faultAt, pp_faultAt, pg_got, pp_got, pg_lines, pp_lines, pg_onces, pp_onces, pg_undoMany, pp_undoMany, pg_laidSet, pp_laidSet, pg_hasLaid, pp_hasLaid, pg_turnSet, pp_turnSet, pg_hasTurns, pp_hasTurns, pg_frostDay, pp_frostDay, pg_surelySet, pp_surelySet, pg_neverSet, pp_neverSet, pg_hasHooks, pp_hasHooks, pg_priceNow, pp_priceNow, pg_hasPrice, pp_hasPrice, pg_seed, pp_seed, pg_toldMany, pp_toldMany, pg_hasTold, pp_hasTold, pg_codes, pp_codes, pg_ones, pp_ones, pg_top, pp_top, pg_deep, pp_deep, pg_isWhole, pp_isWhole, px_SAne, px_SL, px_SI, px_SW, px_S1, px_S2, px_S4, px_S3, ch, Int32.add_zero]
    rw [ok.2.1.1, if_neg (by rw [px_le (by omega) (by omega)]; omega)]
    have e : sp_want s p (n + 1) k a = sp_want s p n (k + 1) (if sp_chill s k * sp_chill s k ≤ p then a else a + 1) := rfl
    rw [e]
    split <;> exact ih f (k + 1) _ (by omega) (by omega)
theorem cm_cold_4 {p : Int32} {k0 : Int32 → cz_H → cz_Z} (hc : X.2.1 0 = some c) (H : cx_st h x X 0 c s nm) : ∀ (n f k : Nat) (a : Nat), k + n = sp_n s 1 → n < f → fn_X1_cold_4 (some x) p k0 f (Int32.ofNat a) (Int32.ofNat k) (cx_set h x X) = k0 (Int32.ofNat (sp_want s p n k a)) (cx_set h x X) := by
  have h6 := H.1.1.1.1.2.1.2
  intro n
  induction n with
  | zero =>
    intro f k a hk hf
    obtain ⟨f, rfl⟩ : ∃ g, f = g + 1 := ⟨f - 1, by omega⟩
    rw [fn_X1_cold_4, cx_rc, cm_men hc H, px_cI, if_pos (by rw [px_le (by omega) (by omega)]; omega)]
    rfl
  | succ n ih =>
    intro f k a hk hf
    obtain ⟨f, rfl⟩ : ∃ g, f = g + 1 := ⟨f - 1, by omega⟩
    rw [fn_X1_cold_4, cx_rc, cm_men hc H, px_cI, if_neg (by rw [px_le (by omega) (by omega)]; omega)]
    have ch := n0_chill (k := k) (a := sp_coatsAt s (Int32.ofNat k)) (y := s 62) H (by omega)
    simp only [cg_now, n0_rc, n0_wornBy H, px_cI, n0_day, H.2.2.2.1, ch, pc_square, cz_leti, px_c1r]
    have e : sp_want s p (n + 1) k a = sp_want s p n (k + 1) (if sp_chill s k * sp_chill s k ≤ p then a else a + 1) := rfl
    rw [e]
    have u : sp_chillIn s k (s 62) (sp_coatsAt s (Int32.ofNat k)) = sp_chill s k := rfl
    rw [u]
    split <;> exact ih f (k + 1) _ (by omega) (by omega)
theorem cm_cold {p : Nat} (hc : X.2.1 0 = some c) (H : cx_st h x X 0 c s nm) : fn_X1_cold (some x) (Int32.ofNat p) (cx_set h x X) = some (.inl (some (cz_i (Int32.ofNat (sp_wantA s p)))), cx_set h x X) := by
  have h6 := H.1.1.1.1.2.1.2
  rw [fn_X1_cold]
  exact cm_cold_4 hc H (sp_n s 1) 1000 0 0 (Nat.zero_add _) (by omega)
theorem sp_wantA_le (ok : sp_ok s) (p : Nat) : sp_wantA s p ≤ 6 := by
  have h6 := ok.2.1.2
  have := sp_want_le (s := s) (p := Int32.ofNat p) (sp_n s 1) 0 0
  unfold sp_wantA
  omega
theorem pm_rounds_19 {k0 : Int32 → cz_H → cz_Z} (hb : g.1.1 ≤ m) (ok : sp_ok s) {N : Nat} (h8 : N ≤ 8) (hN : s 117 = Int32.ofNat N) : ∀ (n f k p : Nat), k + n = 60 → n + 1 < f → p ≤ 5 + k → fn_X5_rounds_19 (some m) k0 f (Int32.ofNat k) 1 (px_set g m (px_S (px_I M 33 (Int32.ofNat p)) s)) = k0 (Int32.ofNat (sp_rd s n k p).1) (px_set g m (px_S (px_I M 33 (Int32.ofNat (sp_rd s n k p).2)) s)) := by
  have h6 := ok.2.1.2
  have n117 : sp_n s 117 = N := by unfold sp_n; rw [hN, Int32.toNatClampNeg_ofNat_of_lt (show N < 2 ^ 31 by omega)]
  intro n
  induction n with
  | zero =>
    intro f k p hk hf hp
    obtain ⟨f, rfl⟩ : ∃ g, f = g + 1 := ⟨f - 1, by omega⟩
    rw [fn_X5_rounds_19, if_neg (by decide), show (60 : Int32) = Int32.ofNat 60 from rfl, if_pos (by rw [px_le (by omega) (by omega)]; omega)]
    rfl
  | succ n ih =>
    intro f k p hk hf hp
    obtain ⟨f, rfl⟩ : ∃ g, f = g + 1 := ⟨f - 1, by omega⟩
    rw [fn_X5_rounds_19, if_neg (by decide), show (60 : Int32) = Int32.ofNat 60 from rfl, if_neg (by rw [px_le (by omega) (by omega)]; omega)]
    simp (disch := first | assumption | omega) only [cz_leti, px_c1r, pg_priceNow, px_S1, px_I1]
    refine (pm_rounds_43 ok (sp_n s 1) 1000 0 0 (Nat.zero_add _) (by omega)).trans ?_
    have hw := sp_wantA_le ok p
    have ew : sp_want s (Int32.ofNat p) (sp_n s 1) 0 0 = sp_wantA s p := rfl
    rw [ew, sp_rd]
    unfold sp_nx
    rw [n117]
    simp only [cz_jn]
    have mx : fn_X5_greater 0 (Int32.ofNat p - 1) (px_set g m (px_S (px_I M 33 (Int32.ofNat p)) s)) = some (.inl (some (cz_i (Int32.ofNat (p - 1)))), px_set g m (px_S (px_I M 33 (Int32.ofNat p)) s)) := by
      rw [pm_greater0]
      unfold sp_max0
      cases p with
      | zero => rfl
      | succ p => rw [px_sub1 (by omega), if_pos (px_nn _ (by omega))]
    by_cases e1 : N < sp_wantA s p
    · simp (disch := first | assumption | omega) only [qln, qsn, ql_0, ql_1, ql_2, ql_3, ql_4, ql_5, ql_6, ql_7, ql_62, qs_62, ql_63, qs_63, ql_64, qs_64, ql_117, qs_117, ql_118, qs_118, pl_h_0, ps_h_0, pl_h_1, ps_h_1, pl_h_2, ps_h_2, ps_h_4, ps_h_5, ps_h_6, pl_h_7, ps_h_7, ps_reserved_0, ps_reserved_1, ps_reserved_2, ps_reserved_3, ps_reserved_4, ps_reserved_5, ps_reserved_6, ps_reserved_7, ps_reserved_8, ps_reserved_9, ps_reserved_10, ps_reserved_11, ps_reserved_12, ps_reserved_13, ps_reserved_14, ps_reserved_15, ps_reserved_16, ps_reserved_17, ps_reserved_18, ps_reserved_19, ps_reserved_20, ps_reserved_21, ps_reserved_22, ps_reserved_23, pl_toldAt_0, ps_toldAt_0, pl_toldAt_1, ps_toldAt_1, ps_toldAt_2, ps_toldAt_3, pl_truths_0, px_c8, px_c10, px_c16, px_c20, px_c22, px_c30, px_c36, px_c38, px_c46, px_c54, px_c62, px_c65, px_c73, px_c81, px_c89, px_c97, px_c103, px_c109, px_c119, pr_tape, pln_tape, psn_tape, pr_s, pr_h, pln_h, psn_h, pr_read, pln_read, psn_read, pr_names, pln_names, psn_names, pr_reserved, pln_reserved, psn_reserved, pr_undone, pln_undone, psn_undone, pr_before, pln_before, psn_before, pr_sat, pln_sat, psn_sat, pr_toldAt, pln_toldAt, psn_toldAt, pr_stack, pln_stack, psn_stack, pr_truths, pln_truths, psn_truths, pr_kept, pln_kept, psn_kept, pr_namesKept, pln_namesKept, psn_namesKept, pr_areKept, pln_areKept, psn_areKept, px_c1r, px_rc, px_cI, px_cR, px_cV, px_ckz, px_ckz0, px_ckz1, px_getJ, px_putJ, cz_leti, cz_jn, pg_thrown, pp_thrown, pg_length, pp_length, pg_size, pp_size, pg_p, pp_p, pg_limit, pp_limit, pg_token, pp_token, pg_at, pp_at, pg_span, pp_span, pg_number, pp_number, pg_fault, pp_fault, pg_faultAt, pp_faultAt, pg_got, pp_got, pg_lines, pp_lines, pg_onces, pp_onces, pg_undoMany, pp_undoMany, pg_laidSet, pp_laidSet, pg_hasLaid, pp_hasLaid, pg_turnSet, pp_turnSet, pg_hasTurns, pp_hasTurns, pg_frostDay, pp_frostDay, pg_surelySet, pp_surelySet, pg_neverSet, pp_neverSet, pg_hasHooks, pp_hasHooks, pg_priceNow, pp_priceNow, pg_hasPrice, pp_hasPrice, pg_seed, pp_seed, pg_toldMany, pp_toldMany, pg_hasTold, pp_hasTold, pg_codes, pp_codes, pg_ones, pp_ones, pg_top, pp_top, pg_deep, pp_deep, pg_isWhole, pp_isWhole, px_SAne, px_SL, px_SI, px_SW, px_S1, px_S2, px_S4, px_S3, px_II, px_I1, hN]
      rw [if_neg (by rw [px_le (by omega) (by omega)]; omega), if_pos (by rw [px_le (by omega) (by omega)]; omega), if_neg (by rw [px_inj (by omega) (by omega)]; omega), if_pos e1, if_neg (by omega)]
      exact ih f (k + 1) (p + 1) (by omega) (by omega) (by omega)
    · by_cases e2 : sp_wantA s p < N
      · simp (disch := first | assumption | omega) only [qln, qsn, ql_0, ql_1, ql_2, ql_3, ql_4, ql_5, ql_6, ql_7, ql_62, qs_62, ql_63, qs_63, ql_64, qs_64, ql_117, qs_117, ql_118, qs_118, pl_h_0, ps_h_0, pl_h_1, ps_h_1, pl_h_2, ps_h_2, ps_h_4, ps_h_5, ps_h_6, pl_h_7, ps_h_7, ps_reserved_0, ps_reserved_1, ps_reserved_2, ps_reserved_3, ps_reserved_4, ps_reserved_5, ps_reserved_6, ps_reserved_7, ps_reserved_8, ps_reserved_9, ps_reserved_10, ps_reserved_11, ps_reserved_12, ps_reserved_13, ps_reserved_14, ps_reserved_15, ps_reserved_16, ps_reserved_17, ps_reserved_18, ps_reserved_19, ps_reserved_20, ps_reserved_21, ps_reserved_22, ps_reserved_23, pl_toldAt_0, ps_toldAt_0, pl_toldAt_1, ps_toldAt_1, ps_toldAt_2, ps_toldAt_3, pl_truths_0, px_c8, px_c10, px_c16, px_c20, px_c22, px_c30, px_c36, px_c38, px_c46, px_c54, px_c62, px_c65, px_c73, px_c81, px_c89, px_c97, px_c103, px_c109, px_c119, pr_tape, pln_tape, psn_tape, pr_s, pr_h, pln_h, psn_h, pr_read, pln_read, psn_read, pr_names, pln_names, psn_names, pr_reserved, pln_reserved, psn_reserved, pr_undone, pln_undone, psn_undone, pr_before, pln_before, psn_before, pr_sat, pln_sat, psn_sat, pr_toldAt, pln_toldAt, psn_toldAt, pr_stack, pln_stack, psn_stack, pr_truths, pln_truths, psn_truths, pr_kept, pln_kept, psn_kept, pr_namesKept, pln_namesKept, psn_namesKept, pr_areKept, pln_areKept, psn_areKept, px_c1r, px_rc, px_cI, px_cR, px_cV, px_ckz, px_ckz0, px_ckz1, px_getJ, px_putJ, cz_leti, cz_jn, pg_thrown, pp_thrown, pg_length, pp_length, pg_size, pp_size, pg_p, pp_p, pg_limit, pp_limit, pg_token, pp_token, pg_at, pp_at, pg_span, pp_span, pg_number, pp_number, pg_fault, pp_fault, pg_faultAt, pp_faultAt, pg_got, pp_got, pg_lines, pp_lines, pg_onces, pp_onces, pg_undoMany, pp_undoMany, pg_laidSet, pp_laidSet, pg_hasLaid, pp_hasLaid, pg_turnSet, pp_turnSet, pg_hasTurns, pp_hasTurns, pg_frostDay, pp_frostDay, pg_surelySet, pp_surelySet, pg_neverSet, pp_neverSet, pg_hasHooks, pp_hasHooks, pg_priceNow, pp_priceNow, pg_hasPrice, pp_hasPrice, pg_seed, pp_seed, pg_toldMany, pp_toldMany, pg_hasTold, pp_hasTold, pg_codes, pp_codes, pg_ones, pp_ones, pg_top, pp_top, pg_deep, pp_deep, pg_isWhole, pp_isWhole, px_SAne, px_SL, px_SI, px_SW, px_S1, px_S2, px_S4, px_S3, px_II, px_I1, hN, mx]
        rw [if_pos (by rw [px_le (by omega) (by omega)]; omega), if_neg (by rw [px_le (by omega) (by omega)]; omega), if_neg e1, if_pos e2]
        by_cases e3 : p - 1 = p
        · rw [if_pos (by rw [e3]), if_pos e3]
          obtain ⟨f, rfl⟩ : ∃ g, f = g + 1 := ⟨f - 1, by omega⟩
          rw [fn_X5_rounds_19, if_pos rfl, e3]
        · rw [if_neg (by rw [px_inj (by omega) (by omega)]; exact e3), if_neg e3]
          exact ih f (k + 1) (p - 1) (by omega) (by omega) (by omega)
      · simp (disch := first | assumption | omega) only [qln, qsn, ql_0, ql_1, ql_2, ql_3, ql_4, ql_5, ql_6, ql_7, ql_62, qs_62, ql_63, qs_63, ql_64, qs_64, ql_117, qs_117, ql_118, qs_118, pl_h_0, ps_h_0, pl_h_1, ps_h_1, pl_h_2, ps_h_2, ps_h_4, ps_h_5, ps_h_6, pl_h_7, ps_h_7, ps_reserved_0, ps_reserved_1, ps_reserved_2, ps_reserved_3, ps_reserved_4, ps_reserved_5, ps_reserved_6, ps_reserved_7, ps_reserved_8, ps_reserved_9, ps_reserved_10, ps_reserved_11, ps_reserved_12, ps_reserved_13, ps_reserved_14, ps_reserved_15, ps_reserved_16, ps_reserved_17, ps_reserved_18, ps_reserved_19, ps_reserved_20, ps_reserved_21, ps_reserved_22, ps_reserved_23, pl_toldAt_0, ps_toldAt_0, pl_toldAt_1, ps_toldAt_1, ps_toldAt_2, ps_toldAt_3, pl_truths_0, px_c8, px_c10, px_c16, px_c20, px_c22, px_c30, px_c36, px_c38, px_c46, px_c54, px_c62, px_c65, px_c73, px_c81, px_c89, px_c97, px_c103, px_c109, px_c119, pr_tape, pln_tape, psn_tape, pr_s, pr_h, pln_h, psn_h, pr_read, pln_read, psn_read, pr_names, pln_names, psn_names, pr_reserved, pln_reserved, psn_reserved, pr_undone, pln_undone, psn_undone, pr_before, pln_before, psn_before, pr_sat, pln_sat, psn_sat, pr_toldAt, pln_toldAt, psn_toldAt, pr_stack, pln_stack, psn_stack, pr_truths, pln_truths, psn_truths, pr_kept, pln_kept, psn_kept, pr_namesKept, pln_namesKept, psn_namesKept, pr_areKept, pln_areKept, psn_areKept, px_c1r, px_rc, px_cI, px_cR, px_cV, px_ckz, px_ckz0, px_ckz1, px_getJ, px_putJ, cz_leti, cz_jn, pg_thrown, pp_thrown, pg_length, pp_length, pg_size, pp_size, pg_p, pp_p, pg_limit, pp_limit, pg_token, pp_token, pg_at, pp_at, pg_span, pp_span, pg_number, pp_number, pg_fault, pp_fault, pg_faultAt, pp_faultAt, pg_got, pp_got, pg_lines, pp_lines, pg_onces, pp_onces, pg_undoMany, pp_undoMany, pg_laidSet, pp_laidSet, pg_hasLaid, pp_hasLaid, pg_turnSet, pp_turnSet, pg_hasTurns, pp_hasTurns, pg_frostDay, pp_frostDay, pg_surelySet, pp_surelySet, pg_neverSet, pp_neverSet, pg_hasHooks, pp_hasHooks, pg_priceNow, pp_priceNow, pg_hasPrice, pp_hasPrice, pg_seed, pp_seed, pg_toldMany, pp_toldMany, pg_hasTold, pp_hasTold, pg_codes, pp_codes, pg_ones, pp_ones, pg_top, pp_top, pg_deep, pp_deep, pg_isWhole, pp_isWhole, px_SAne, px_SL, px_SI, px_SW, px_S1, px_S2, px_S4, px_S3, px_II, px_I1, hN]
        rw [if_pos (by rw [px_le (by omega) (by omega)]; omega), if_pos (by rw [px_le (by omega) (by omega)]; omega), if_neg e1, if_neg e2, if_pos rfl]
        obtain ⟨f, rfl⟩ : ∃ g, f = g + 1 := ⟨f - 1, by omega⟩
        rw [fn_X5_rounds_19, if_pos rfl]
        rfl
theorem cx_st.I {i j : Nat} {v : Int32} (H : cx_st h x X i c s nm) : cx_st h x (cx_I X j v) i c s nm := H
theorem cm_rounds_9 {k0 : Int32 → cz_H → cz_Z} (hb : h.1.1 ≤ x) (hc : X.2.1 0 = some c) (H : cx_st h x X 0 c s nm) {N : Nat} (h8 : N ≤ 8) (hN : s 117 = Int32.ofNat N) : ∀ (n f k p : Nat) (w : Int32), k + n = 60 → n + 1 < f → p ≤ 5 + k → ¬ Int32.ofNat p = w → fn_X1_rounds_9 (some x) k0 f (Int32.ofNat k) w (cx_set h x (cx_I X 15 (Int32.ofNat p))) = k0 (Int32.ofNat (sp_rd s n k p).1) (cx_set h x (cx_I X 15 (Int32.ofNat (sp_rd s n k p).2))) := by
  have h6 := H.1.1.1.1.2.1.2
  have ok := H.1.1.1.1
  have n117 : sp_n s 117 = N := by unfold sp_n; rw [hN, Int32.toNatClampNeg_ofNat_of_lt (show N < 2 ^ 31 by omega)]
  intro n
  induction n with
  | zero =>
    intro f k p w hk hf hp hw
    obtain ⟨f, rfl⟩ : ∃ g, f = g + 1 := ⟨f - 1, by omega⟩
    rw [fn_X1_rounds_9, cg_price, cx_Ie, if_neg hw, show (60 : Int32) = Int32.ofNat 60 from rfl, if_pos (by rw [px_le (by omega) (by omega)]; omega)]
    rfl
  | succ n ih =>
    intro f k p w hk hf hp hw
    obtain ⟨f, rfl⟩ : ∃ g, f = g + 1 := ⟨f - 1, by omega⟩
    rw [fn_X1_rounds_9, cg_price, cx_Ie, if_neg hw, show (60 : Int32) = Int32.ofNat 60 from rfl, if_neg (by rw [px_le (by omega) (by omega)]; omega)]
    have hw6 := sp_wantA_le ok p
    have H2 : cx_st h x (cx_I X 15 (Int32.ofNat p)) 0 c s nm := H
    have q5 : ((cx_I X 15 (Int32.ofNat p)).2.2.2.2 0).2.1 5 = Int32.ofNat N := by
      have := H.2.2.2.2.2.2.2.1
      rw [hN] at this
      exact this
    simp only [cg_price, cx_Ie, cx_rc, cm_cold (X := cx_I X 15 (Int32.ofNat p)) (p := p) hc H2, px_cI, cg_now, n0_queued, q5, cz_leti, px_c1r]
    rw [sp_rd]
    unfold sp_nx
    rw [n117]
    have by1 : (Int32.ofNat (sp_wantA s p) - Int32.ofNat N ≤ 0) = (sp_wantA s p ≤ N) := by
      rw [Int32.le_iff_toInt_le, Int32.toInt_sub, Int32.toInt_ofNat_small (by omega), Int32.toInt_ofNat_small (by omega), show (0 : Int32).toInt = 0 from rfl, Int.bmod_eq_of_le (by omega) (by omega)]
      exact propext ⟨fun q => by omega, fun q => by omega⟩
    have by2 : (0 ≤ Int32.ofNat (sp_wantA s p) - Int32.ofNat N) = (N ≤ sp_wantA s p) := by
      rw [Int32.le_iff_toInt_le, Int32.toInt_sub, Int32.toInt_ofNat_small (by omega), Int32.toInt_ofNat_small (by omega), show (0 : Int32).toInt = 0 from rfl, Int.bmod_eq_of_le (by omega) (by omega)]
      exact propext ⟨fun q => by omega, fun q => by omega⟩
    have same : fn_X1_rounds_9 (some x) k0 f (Int32.ofNat (k + 1)) (Int32.ofNat p) (cx_set h x (cx_I X 15 (Int32.ofNat p))) = k0 (Int32.ofNat (k + 1)) (cx_set h x (cx_I X 15 (Int32.ofNat p))) := by
      obtain ⟨f, rfl⟩ : ∃ g, f = g + 1 := ⟨f - 1, by omega⟩
      rw [fn_X1_rounds_9, cg_price, cx_Ie, if_pos rfl]
    by_cases e1 : N < sp_wantA s p
    · rw [if_neg (by rw [by1]; omega), if_pos e1, if_neg (by omega), cp_price hb, cx_II]
      exact ih f (k + 1) (p + 1) _ (by omega) (by omega) (by omega) (by rw [px_inj (by omega) (by omega)]; omega)
    · rw [if_pos (by rw [by1]; omega), if_neg e1]
      by_cases e2 : sp_wantA s p < N
      · rw [if_neg (by rw [by2]; omega), if_pos e2]
        by_cases e3 : p = 0
        · subst e3
          rw [if_pos (by decide), if_pos rfl, same]
        · rw [if_neg (by rw [show (0 : Int32) = Int32.ofNat 0 from rfl, px_le (by omega) (by omega)]; omega), if_neg (by omega), cp_price hb, cx_II, px_sub1 (by omega)]
          exact ih f (k + 1) (p - 1) _ (by omega) (by omega) (by omega) (by rw [px_inj (by omega) (by omega)]; omega)
      · rw [if_pos (by rw [by2]; omega), if_neg e2, if_pos rfl, same]
theorem pm_rounds (hb : g.1.1 ≤ m) (F : sp_full s) : fn_X5_rounds (some m) (px_set g m (px_S M s)) = some (.inl (some (cz_i (Int32.ofNat (sp_rd s 60 0 5).1))), px_set g m (px_S (px_I (px_I (px_I M 0 0) 34 1) 33 (Int32.ofNat (sp_rd s 60 0 5).2)) s)) := by
  obtain ⟨ok, Q, hQ⟩ := F.1.1
  obtain ⟨-, hl⟩ := sp_q_len ok hQ
  rw [fn_X5_rounds]
  simp (disch := first | assumption | omega) only [pp_thrown, pp_priceNow, pp_hasPrice, px_SI]
  rw [px_IC (show 33 ≠ 34 by decide)]
  exact pm_rounds_19 hb ok hl hQ.2.2.1 60 1000 0 5 rfl (by omega) (by omega)
theorem cm_rounds (hb : h.1.1 ≤ x) (hc : X.2.1 0 = some c) (H : cx_st h x X 0 c s nm) : fn_X1_rounds (some x) (cx_set h x X) = some (.inl (some (cz_i (Int32.ofNat (sp_rd s 60 0 5).1))), cx_set h x (cx_I X 15 (Int32.ofNat (sp_rd s 60 0 5).2))) := by
  obtain ⟨ok, Q, hQ⟩ := H.1.1.1
  obtain ⟨-, hl⟩ := sp_q_len ok hQ
  rw [fn_X1_rounds, cp_price hb]
  exact cm_rounds_9 hb hc H hl hQ.2.2.1 60 1000 0 5 (-1) rfl (by omega) (by omega) (by decide)
end RDA
