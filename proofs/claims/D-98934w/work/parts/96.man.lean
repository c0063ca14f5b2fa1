/-! THE PLAIN LAW, 36: a man, a coat -/
set_option maxRecDepth 100000
noncomputable def sp_heldW (s : Nat → Int32) (y : Int32) : Int32 := sp_fold (fun k a => if sp_holder s (Int32.ofNat k) = y then a + s (8 + k) else a) (sp_n s 0) 0 0
def sp_his (s : Nat → Int32) (y : Int32) : Int32 := sp_fold (fun c a => if s (22 + c) = y ∧ ¬ s (65 + c) = 30 then a ||| ((1 : Int32) <<< (Int32.ofNat c &&& 31)) else a) (sp_n s 2) 0 0
theorem sp_worth_held {s : Nat → Int32} {y : Int32} (h8 : sp_n s 0 ≤ 8) : sp_worth s (sp_heldBy s y) = sp_heldW s y := by
  unfold sp_worth sp_heldW
  refine sp_fold_congr _ _ _ fun j b _ h2 => ?_
  have e : ((((sp_heldBy s y) >>> (Int32.ofNat j &&& 31)) &&& 1) = 1) = (sp_holder s (Int32.ofNat j) = y) := by
    rw [px_bit (by omega), sp_heldBy_bit h8 (by omega), decide_eq_true_eq]
    exact propext ⟨fun q => q.2, fun q => ⟨by omega, q⟩⟩
  by_cases q : sp_holder s (Int32.ofNat j) = y
  · rw [if_pos q, if_pos (by rw [e]; exact q)]
  · rw [if_neg q, if_neg (by rw [e]; exact q)]
theorem sp_his_eq {s : Nat → Int32} {y : Int32} (h8 : sp_n s 2 ≤ 8) : sp_coatsOf s y &&& (sp_coatsAt s 30 ^^^ (-1)) = sp_his s y := by
  apply px_set_ext
  intro j hj
  unfold sp_his
  rw [Int32.toBitVec_and, BitVec.getLsbD_and, px_not_bit hj, sp_coatsOf_bit h8 hj, sp_coatsAt_bit h8 hj, sp_set_bit hj _ _ _ (by omega)]
  by_cases a : j < sp_n s 2 <;> by_cases b : s (22 + j) = y <;> by_cases c : s (65 + j) = 30 <;> simp [a, b, c]
section SPG
variable {h : cz_H} {m : Nat} {M : px_M} {s : Nat → Int32}
theorem pm_man_43 {y : Int32} {k0 : Int32 → Int32 → cz_H → cz_Z} (ok : sp_ok s) : ∀ (n f k : Nat) (a b : Int32), k + n = sp_n s 0 → n < f → fn_X5_man_43 (some m) y k0 f a b (Int32.ofNat k) (px_set h m (px_S M s)) = k0 (sp_fold (fun k a => if sp_holder s (Int32.ofNat k) = y then a ||| ((1 : Int32) <<< (Int32.ofNat k &&& 31)) else a) n k a) (sp_fold (fun k a => if sp_holder s (Int32.ofNat k) = y then a + s (8 + k) else a) n k b) (px_set h m (px_S M s)) := by
  have ok2 := ok
  obtain ⟨⟨hc, h8⟩, -⟩ := ok
  intro n
  induction n with
  | zero =>
    intro f k a b hk hf
    obtain ⟨f, rfl⟩ : ∃ g, f = g + 1 := ⟨f - 1, by omega⟩
    rw [fn_X5_man_43]
    simp (disch := omega) only [qln, qsn, ql_0, ql_1, ql_2, ql_3, ql_4, ql_5, ql_6, ql_7, ql_62, qs_62, ql_63, qs_63, ql_64, qs_64, ql_117, qs_117, ql_118, qs_118, pl_h_0, ps_h_0, pl_h_1, ps_h_1, pl_h_2, ps_h_2, ps_h_4, ps_h_5, ps_h_6, pl_h_7, ps_h_7, ps_reserved_0, ps_reserved_1, ps_reserved_2, ps_reserved_3, ps_reserved_4, ps_reserved_5, ps_reserved_6, ps_reserved_7, ps_reserved_8, ps_reserved_9, ps_reserved_10, ps_reserved_11, ps_reserved_12, ps_reserved_13, ps_reserved_14, ps_reserved_15, ps_reserved_16, ps_reserved_17, ps_reserved_18, ps_reserved_19, ps_reserved_20, ps_reserved_21, ps_reserved_22, ps_reserved_23, pl_toldAt_0, ps_toldAt_0, pl_toldAt_1, ps_toldAt_1, ps_toldAt_2, ps_toldAt_3, pl_truths_0, px_c8, px_c10, px_c16, px_c20, px_c22, px_c30, px_c36, px_c38, px_c46, px_c54, px_c62, px_c65, px_c73, px_c81, px_c89, px_c97, px_c103, px_c109, px_c119, pr_tape, pln_tape, psn_tape, pr_s, pr_h, pln_h, psn_h, pr_read, pln_read, psn_read, pr_names, pln_names, psn_names, pr_reserved, pln_reserved, psn_reserved, pr_undone, pln_undone, psn_undone, pr_before, pln_before, psn_before, pr_sat, pln_sat, psn_sat, pr_toldAt, pln_toldAt, psn_toldAt, pr_stack, pln_stack, psn_stack, pr_truths, pln_truths, psn_truths, pr_kept, pln_kept, psn_kept, pr_namesKept, pln_namesKept, psn_namesKept, pr_areKept, pln_areKept, psn_areKept, px_c1r, px_rc, px_cI, px_cR, px_cV, px_ckz, px_ckz0, px_ckz1, px_getJ, px_putJ, cz_leti, cz_jn, pg_thrown, pp_thrown, pg_length, pp_length, pg_size, pp_size, pg_p, pp_p, pg_limit, pp_limit, pg_token, pp_token, pg_at, pp_at, pg_span, pp_span, pg_number, pp_number, pg_fault, pp_fault, pg_faultAt, pp_faultAt, pg_got, pp_got, pg_lines, pp_lines, pg_onces, pp_onces, pg_undoMany, pp_undoMany, pg_laidSet, pp_laidSet, pg_hasLaid, pp_hasLaid, pg_turnSet, pp_turnSet, pg_hasTurns, pp_hasTurns, pg_frostDay, pp_frostDay, pg_surelySet, pp_surelySet, pg_neverSet, pp_neverSet, pg_hasHooks, pp_hasHooks, pg_priceNow, pp_priceNow, pg_hasPrice, pp_hasPrice, pg_seed, pp_seed, pg_toldMany, pp_toldMany, pg_hasTold, pp_hasTold, pg_codes, pp_codes, pg_ones, pp_ones, pg_top, pp_top, pg_deep, pp_deep, pg_isWhole, pp_isWhole, px_SAne, px_SL, px_SI, px_SW, px_S1, px_S2, px_S4, px_S3]
    rw [hc, if_pos (by rw [px_le (by omega) (by omega)]; omega)]
    rfl
  | succ n ih =>
    intro f k a b hk hf
    obtain ⟨f, rfl⟩ : ∃ g, f = g + 1 := ⟨f - 1, by omega⟩
    rw [fn_X5_man_43]
    simp (disch := omega) only [qln, qsn, ql_0, ql_1, ql_2, ql_3, ql_4, ql_5, ql_6, ql_7, ql_62, qs_62, ql_63, qs_63, ql_64, qs_64, ql_117, qs_117, ql_118, qs_118, pl_h_0, ps_h_0, pl_h_1, ps_h_1, pl_h_2, ps_h_2, ps_h_4, ps_h_5, ps_h_6, pl_h_7, ps_h_7, ps_reserved_0, ps_reserved_1, ps_reserved_2, ps_reserved_3, ps_reserved_4, ps_reserved_5, ps_reserved_6, ps_reserved_7, ps_reserved_8, ps_reserved_9, ps_reserved_10, ps_reserved_11, ps_reserved_12, ps_reserved_13, ps_reserved_14, ps_reserved_15, ps_reserved_16, ps_reserved_17, ps_reserved_18, ps_reserved_19, ps_reserved_20, ps_reserved_21, ps_reserved_22, ps_reserved_23, pl_toldAt_0, ps_toldAt_0, pl_toldAt_1, ps_toldAt_1, ps_toldAt_2, ps_toldAt_3, pl_truths_0, px_c8, px_c10, px_c16, px_c20, px_c22, px_c30, px_c36, px_c38, px_c46, px_c54, px_c62, px_c65, px_c73, px_c81, px_c89, px_c97, px_c103, px_c109, px_c119, pr_tape, pln_tape, psn_tape, pr_s, pr_h, pln_h, psn_h, pr_read, pln_read, psn_read, pr_names, pln_names, psn_names, pr_reserved, pln_reserved, psn_reserved, pr_undone, pln_undone, psn_undone, pr_before, pln_before, psn_before, pr_sat, pln_sat, psn_sat, pr_toldAt, pln_toldAt, psn_toldAt, pr_stack, pln_stack, psn_stack, pr_truths, pln_truths, psn_truths, pr_kept, pln_kept, psn_kept, pr_namesKept, pln_namesKept, psn_namesKept, pr_areKept, pln_areKept, psn_areKept, px_c1r, px_rc, px_cI, px_cR, px_cV, px_ckz, px_ckz0, px_ckz1, px_getJ, px_putJ, cz_leti, cz_jn, pg_thrown, pp_thrown, pg_length, pp_length, pg_size, pp_size, pg_p, pp_p, pg_limit, pp_limit, pg_token, pp_token, pg_at, pp_at, pg_span, pp_span, pg_number, pp_number, pg_fault, pp_fault, pg_faultAt, pp_faultAt, pg_got, pp_got, pg_lines, pp_lines, pg_onces, pp_onces, pg_undoMany, pp_undoMany, pg_laidSet, pp_laidSet, pg_hasLaid, pp_hasLaid, pg_turnSet, pp_turnSet, pg_hasTurns, pp_hasTurns, pg_frostDay, pp_frostDay, pg_surelySet, pp_surelySet, pg_neverSet, pp_neverSet, pg_hasHooks, pp_hasHooks, pg_priceNow, pp_priceNow, pg_hasPrice, pp_hasPrice, pg_seed, pp_seed, pg_toldMany, pp_toldMany, pg_hasTold, pp_hasTold, pg_codes, pp_codes, pg_ones, pp_ones, pg_top, pp_top, pg_deep, pp_deep, pg_isWhole, pp_isWhole, px_SAne, px_SL, px_SI, px_SW, px_S1, px_S2, px_S4, px_S3, pm_holder ok2]
    rw [hc, if_neg (by rw [px_le (by omega) (by omega)]; omega), sp_fold, sp_fold]
    split
    · exact ih f (k + 1) _ _ (by omega) (by omega)
    · exact ih f (k + 1) _ _ (by omega) (by omega)
theorem pm_man_98 {y : Int32} {k0 : Int32 → cz_H → cz_Z} (ok : sp_ok s) : ∀ (n f k : Nat) (a : Int32), k + n = sp_n s 2 → n < f → fn_X5_man_98 (some m) y k0 f a (Int32.ofNat k) (px_set h m (px_S M s)) = k0 (sp_fold (fun c a => if s (22 + c) = y ∧ ¬ s (65 + c) = 30 then a ||| ((1 : Int32) <<< (Int32.ofNat c &&& 31)) else a) n k a) (px_set h m (px_S M s)) := by
  have ok2 := ok
  obtain ⟨-, -, ⟨hc, h8⟩, -⟩ := ok
  intro n
  induction n with
  | zero =>
    intro f k a hk hf
    obtain ⟨f, rfl⟩ : ∃ g, f = g + 1 := ⟨f - 1, by omega⟩
    rw [fn_X5_man_98]
    simp (disch := omega) only [qln, qsn, ql_0, ql_1, ql_2, ql_3, ql_4, ql_5, ql_6, ql_7, ql_62, qs_62, ql_63, qs_63, ql_64, qs_64, ql_117, qs_117, ql_118, qs_118, pl_h_0, ps_h_0, pl_h_1, ps_h_1, pl_h_2, ps_h_2, ps_h_4, ps_h_5, ps_h_6, pl_h_7, ps_h_7, ps_reserved_0, ps_reserved_1, ps_reserved_2, ps_reserved_3, ps_reserved_4, ps_reserved_5, ps_reserved_6, ps_reserved_7, ps_reserved_8, ps_reserved_9, ps_reserved_10, ps_reserved_11, ps_reserved_12, ps_reserved_13, ps_reserved_14, ps_reserved_15, ps_reserved_16, ps_reserved_17, ps_reserved_18, ps_reserved_19, ps_reserved_20, ps_reserved_21, ps_reserved_22, ps_reserved_23, pl_toldAt_0, ps_toldAt_0, pl_toldAt_1, ps_toldAt_1, ps_toldAt_2, ps_toldAt_3, pl_truths_0, px_c8, px_c10, px_c16, px_c20, px_c22, px_c30, px_c36, px_c38, px_c46, px_c54, px_c62, px_c65, px_c73, px_c81, px_c89, px_c97, px_c103, px_c109, px_c119, pr_tape, pln_tape, psn_tape, pr_s, pr_h, pln_h, psn_h, pr_read, pln_read, psn_read, pr_names, pln_names, psn_names, pr_reserved, pln_reserved, psn_reserved, pr_undone, pln_undone, psn_undone, pr_before, pln_before, psn_before, pr_sat, pln_sat, psn_sat, pr_toldAt, pln_toldAt, psn_toldAt, pr_stack, pln_stack, psn_stack, pr_truths, pln_truths, psn_truths, pr_kept, pln_kept, psn_kept, pr_namesKept, pln_namesKept, psn_namesKept, pr_areKept, pln_areKept, psn_areKept, px_c1r, px_rc, px_cI, px_cR, px_cV, px_ckz, px_ckz0, px_ckz1, px_getJ, px_putJ, cz_leti, cz_jn, pg_thrown, pp_thrown, pg_length, pp_length, pg_size, pp_size, pg_p, pp_p, pg_limit, pp_limit, pg_token, pp_token, pg_at, pp_at, pg_span, pp_span, pg_number, pp_number, pg_fault, pp_fault, pg_faultAt, pp_faultAt, pg_got, pp_got, pg_lines, pp_lines, pg_onces, pp_onces, pg_undoMany, pp_undoMany, pg_laidSet, pp_laidSet, pg_hasLaid, pp_hasLaid, pg_turnSet, pp_turnSet, pg_hasTurns, pp_hasTurns, pg_frostDay, pp_frostDay, pg_surelySet, pp_surelySet, pg_neverSet, pp_neverSet, pg_hasHooks, pp_hasHooks, pg_priceNow, pp_priceNow, pg_hasPrice, pp_hasPrice, pg_seed, pp_seed, pg_toldMany, pp_toldMany, pg_hasTold, pp_hasTold, pg_codes, pp_codes, pg_ones, pp_ones, pg_top, pp_top, pg_deep, pp_deep, pg_isWhole, pp_isWhole, px_SAne, px_SL, px_SI, px_SW, px_S1, px_S2, px_S4, px_S3]
    rw [hc, if_pos (by rw [px_le (by omega) (by omega)]; omega)]
    rfl
  | succ n ih =>
    intro f k a hk hf
    obtain ⟨f, rfl⟩ : ∃ g, f = g + 1 := ⟨f - 1, by omega⟩
    rw [fn_X5_man_98]
    simp (disch := omega) only [qln, qsn, ql_0, ql_1, ql_2, ql_3, ql_4, ql_5, ql_6, ql_7, ql_62, qs_62, ql_63, qs_63, ql_64, qs_64, ql_117, qs_117, ql_118, qs_118, pl_h_0, ps_h_0, pl_h_1, ps_h_1, pl_h_2, ps_h_2, ps_h_4, ps_h_5, ps_h_6, pl_h_7, ps_h_7, ps_reserved_0, ps_reserved_1, ps_reserved_2, ps_reserved_3, ps_reserved_4, ps_reserved_5, ps_reserved_6, ps_reserved_7, ps_reserved_8, ps_reserved_9, ps_reserved_10, ps_reserved_11, ps_reserved_12, ps_reserved_13, ps_reserved_14, ps_reserved_15, ps_reserved_16, ps_reserved_17, ps_reserved_18, ps_reserved_19, ps_reserved_20, ps_reserved_21, ps_reserved_22, ps_reserved_23, pl_toldAt_0, ps_toldAt_0, pl_toldAt_1, ps_toldAt_1, ps_toldAt_2, ps_toldAt_3, pl_truths_0, px_c8, px_c10, px_c16, px_c20, px_c22, px_c30, px_c36, px_c38, px_c46, px_c54, px_c62, px_c65, px_c73, px_c81, px_c89, px_c97, px_c103, px_c109, px_c119, pr_tape, pln_tape, psn_tape, pr_s, pr_h, pln_h, psn_h, pr_read, pln_read, psn_read, pr_names, pln_names, psn_names, pr_reserved, pln_reserved, psn_reserved, pr_undone, pln_undone, psn_undone, pr_before, pln_before, psn_before, pr_sat, pln_sat, psn_sat, pr_toldAt, pln_toldAt, psn_toldAt, pr_stack, pln_stack, psn_stack, pr_truths, pln_truths, psn_truths, pr_kept, pln_kept, psn_kept, pr_namesKept, pln_namesKept, psn_namesKept, pr_areKept, pln_areKept, psn_areKept, px_c1r, px_rc, px_cI, px_cR, px_cV, px_ckz, px_ckz0, px_ckz1, px_getJ, px_putJ, cz_leti, cz_jn, pg_thrown, pp_thrown, pg_length, pp_length, pg_size, pp_size, pg_p, pp_p, pg_limit, pp_limit, pg_token, pp_token, pg_at, pp_at, pg_span, pp_span, pg_number, pp_number, pg_fault, pp_fault, pg_faultAt, pp_faultAt, pg_got, pp_got, pg_lines, pp_lines, pg_onces, pp_onces, pg_undoMany, pp_undoMany, pg_laidSet, pp_laidSet, pg_hasLaid, pp_hasLaid, pg_turnSet, pp_turnSet, pg_hasTurns, pp_hasTurns, pg_frostDay, pp_frostDay, pg_surelySet, pp_surelySet, pg_neverSet, pp_neverSet, pg_hasHooks, pp_hasHooks, pg_priceNow, pp_priceNow, pg_hasPrice, pp_hasPrice, pg_seed, pp_seed, pg_toldMany, pp_toldMany, pg_hasTold, pp_hasTold, pg_codes, pp_codes, pg_ones, pp_ones, pg_top, pp_top, pg_deep, pp_deep, pg_isWhole, pp_isWhole, px_SAne, px_SL, px_SI, px_SW, px_S1, px_S2, px_S4, px_S3, Int32.or_zero]
    rw [hc, if_neg (by rw [px_le (by omega) (by omega)]; omega), sp_fold]
    by_cases e1 : s (22 + k) = y
    · rw [if_pos e1]
      by_cases e2 : s (65 + k) = 30
      · rw [if_pos e2, if_neg (fun q => q.2 e2)]
        exact ih f (k + 1) _ (by omega) (by omega)
      · rw [if_neg e2, if_pos ⟨e1, e2⟩]
        exact ih f (k + 1) _ (by omega) (by omega)
    · rw [if_neg e1, if_neg (fun q => e1 q.1)]
      exact ih f (k + 1) _ (by omega) (by omega)
/-- what is answered of a man -/
noncomputable def sp_manA (s : Nat → Int32) (k : Nat) (w : Int32) : Int32 := if w = 0 then s (16 + k) else if w = 1 then sp_chill s k else if w = 2 then s (97 + k) else if w = 3 then sp_coatsAt s (Int32.ofNat k) else if w = 4 then sp_heldBy s (Int32.ofNat k) else if w = 5 then sp_heldW s (Int32.ofNat k) else if w = 6 then s (103 + k) else sp_his s (Int32.ofNat k)
def sp_coatA (s : Nat → Int32) (k : Nat) (w : Int32) : Int32 := if w = 0 then s (22 + k) else if w = 1 then s (30 + k) else if w = 2 then s (81 + k) else if w = 3 then s (65 + k) else s (73 + k)
theorem pm_throws0 (hb : h.1.1 ≤ m) : fn_X5_throwsIf (some m) 0 (px_set h m (px_S M s)) = some (.inl (some (cz_i 0)), px_set h m (px_S (px_I M 0 0) s)) := by
  rw [fn_X5_throwsIf]
  simp (disch := first | assumption | omega) only [qln, qsn, ql_0, ql_1, ql_2, ql_3, ql_4, ql_5, ql_6, ql_7, ql_62, qs_62, ql_63, qs_63, ql_64, qs_64, ql_117, qs_117, ql_118, qs_118, pl_h_0, ps_h_0, pl_h_1, ps_h_1, pl_h_2, ps_h_2, ps_h_4, ps_h_5, ps_h_6, pl_h_7, ps_h_7, ps_reserved_0, ps_reserved_1, ps_reserved_2, ps_reserved_3, ps_reserved_4, ps_reserved_5, ps_reserved_6, ps_reserved_7, ps_reserved_8, ps_reserved_9, ps_reserved_10, ps_reserved_11, ps_reserved_12, ps_reserved_13, ps_reserved_14, ps_reserved_15, ps_reserved_16, ps_reserved_17, ps_reserved_18, ps_reserved_19, ps_reserved_20, ps_reserved_21, ps_reserved_22, ps_reserved_23, pl_toldAt_0, ps_toldAt_0, pl_toldAt_1, ps_toldAt_1, ps_toldAt_2, ps_toldAt_3, pl_truths_0, px_c8, px_c10, px_c16, px_c20, px_c22, px_c30, px_c36, px_c38, px_c46, px_c54, px_c62, px_c65, px_c73, px_c81, px_c89, px_c97, px_c103, px_c109, px_c119, pr_tape, pln_tape, psn_tape, pr_s, pr_h, pln_h, psn_h, pr_read, pln_read, psn_read, pr_names, pln_names, psn_names, pr_reserved, pln_reserved, psn_reserved, pr_undone, pln_undone, psn_undone, pr_before, pln_before, psn_before, pr_sat, pln_sat, psn_sat, pr_toldAt, pln_toldAt, psn_toldAt, pr_stack, pln_stack, psn_stack, pr_truths, pln_truths, psn_truths, pr_kept, pln_kept, psn_kept, pr_namesKept, pln_namesKept, psn_namesKept, pr_areKept, pln_areKept, psn_areKept, px_c1r, px_rc, px_cI, px_cR, px_cV, px_ckz, px_ckz0, px_ckz1, px_getJ, px_putJ, cz_leti, cz_jn, pg_thrown, pp_thrown, pg_length, pp_length, pg_size, pp_size, pg_p, pp_p, pg_limit, pp_limit, pg_token, pp_token, pg_at, pp_at, pg_span, pp_span, pg_number, pp_number, pg_fault, pp_fault, pg_faultAt, pp_faultAt, pg_got, pp_got, pg_lines, pp_lines, pg_onces, pp_onces, pg_undoMany, pp_undoMany, pg_laidSet, pp_laidSet, pg_hasLaid, pp_hasLaid, pg_turnSet, pp_turnSet, pg_hasTurns, pp_hasTurns, pg_frostDay, pp_frostDay, pg_surelySet, pp_surelySet, pg_neverSet, pp_neverSet, pg_hasHooks, pp_hasHooks, pg_priceNow, pp_priceNow, pg_hasPrice, pp_hasPrice, pg_seed, pp_seed, pg_toldMany, pp_toldMany, pg_hasTold, pp_hasTold, pg_codes, pp_codes, pg_ones, pp_ones, pg_top, pp_top, pg_deep, pp_deep, pg_isWhole, pp_isWhole, px_SAne, px_SL, px_SI, px_SW, px_S1, px_S2, px_S4, px_S3]
  rfl
theorem pm_throws1 (hb : h.1.1 ≤ m) : fn_X5_throwsIf (some m) 1 (px_set h m (px_S M s)) = some (.inl (some (cz_i 1)), px_set h m (px_S (px_I M 0 1) s)) := by
  rw [fn_X5_throwsIf]
  simp (disch := first | assumption | omega) only [qln, qsn, ql_0, ql_1, ql_2, ql_3, ql_4, ql_5, ql_6, ql_7, ql_62, qs_62, ql_63, qs_63, ql_64, qs_64, ql_117, qs_117, ql_118, qs_118, pl_h_0, ps_h_0, pl_h_1, ps_h_1, pl_h_2, ps_h_2, ps_h_4, ps_h_5, ps_h_6, pl_h_7, ps_h_7, ps_reserved_0, ps_reserved_1, ps_reserved_2, ps_reserved_3, ps_reserved_4, ps_reserved_5, ps_reserved_6, ps_reserved_7, ps_reserved_8, ps_reserved_9, ps_reserved_10, ps_reserved_11, ps_reserved_12, ps_reserved_13, ps_reserved_14, ps_reserved_15, ps_reserved_16, ps_reserved_17, ps_reserved_18, ps_reserved_19, ps_reserved_20, ps_reserved_21, ps_reserved_22, ps_reserved_23, pl_toldAt_0, ps_toldAt_0, pl_toldAt_1, ps_toldAt_1, ps_toldAt_2, ps_toldAt_3, pl_truths_0, px_c8, px_c10, px_c16, px_c20, px_c22, px_c30, px_c36, px_c38, px_c46, px_c54, px_c62, px_c65, px_c73, px_c81, px_c89, px_c97, px_c103, px_c109, px_c119, pr_tape, pln_tape, psn_tape, pr_s, pr_h, pln_h, psn_h, pr_read, pln_read, psn_read, pr_names, pln_names, psn_names, pr_reserved, pln_reserved, psn_reserved, pr_undone, pln_undone, psn_undone, pr_before, pln_before, psn_before, pr_sat, pln_sat, psn_sat, pr_toldAt, pln_toldAt, psn_toldAt, pr_stack, pln_stack, psn_stack, pr_truths, pln_truths, psn_truths, pr_kept, pln_kept, psn_kept, pr_namesKept, pln_namesKept, psn_namesKept, pr_areKept, pln_areKept, psn_areKept, px_c1r, px_rc, px_cI, px_cR, px_cV, px_ckz, px_ckz0, px_ckz1, px_getJ, px_putJ, cz_leti, cz_jn, pg_thrown, pp_thrown, pg_length, pp_length, pg_size, pp_size, pg_p, pp_p, pg_limit, pp_limit, pg_token, pp_token, pg_at, pp_at, pg_span, pp_span, pg_number, pp_number, pg_fault, pp_fault, pg_faultAt, pp_faultAt, pg_got, pp_got, pg_lines, pp_lines, pg_onces, pp_onces, pg_undoMany, pp_undoMany, pg_laidSet, pp_laidSet, pg_hasLaid, pp_hasLaid, pg_turnSet, pp_turnSet, pg_hasTurns, pp_hasTurns, pg_frostDay, pp_frostDay, pg_surelySet, pp_surelySet, pg_neverSet, pp_neverSet, pg_hasHooks, pp_hasHooks, pg_priceNow, pp_priceNow, pg_hasPrice, pp_hasPrice, pg_seed, pp_seed, pg_toldMany, pp_toldMany, pg_hasTold, pp_hasTold, pg_codes, pp_codes, pg_ones, pp_ones, pg_top, pp_top, pg_deep, pp_deep, pg_isWhole, pp_isWhole, px_SAne, px_SL, px_SI, px_SW, px_S1, px_S2, px_S4, px_S3]
  rfl
theorem pm_man {y w : Int32} (hb : h.1.1 ≤ m) (ok : sp_ok s) : fn_X5_man (some m) y w (px_set h m (px_S M s)) = if (0 ≤ y ∧ y ≤ Int32.ofNat (sp_n s 1) - 1) ∧ 0 ≤ w ∧ w ≤ 7 then some (.inl (some (cz_i (sp_manA s y.toNatClampNeg w))), px_set h m (px_S (px_I M 0 0) s)) else some (.inl (some (cz_i 0)), px_set h m (px_S (px_I M 0 1) s)) := by
  have h0 := ok.1.2
  have h1 := ok.2.1.2
  have h8 := ok.2.2.1.2
  rw [fn_X5_man, px_rc, pm_isMan ok, px_cI]
  simp only [cz_jn, pm_isIn, px_cI, px_rc, pm_throws0 hb, pm_throws1 hb]
  by_cases hy : 0 ≤ y ∧ y ≤ Int32.ofNat (sp_n s 1) - 1
  · rw [if_pos hy, if_neg (by decide)]
    by_cases hw : 0 ≤ w ∧ w ≤ 7
    · rw [if_pos hw, if_neg (by decide), if_pos trivial, if_pos (And.intro hy hw)]
      rw [px_range (by omega)] at hy
      obtain ⟨k, hk, rfl⟩ := hy
      rw [Int32.toNatClampNeg_ofNat_of_lt (show k < 2 ^ 31 by omega)]
      refine (pm_man_43 ok (sp_n s 0) 1000 0 0 0 (Nat.zero_add _) (by omega)).trans ?_
      refine (pm_man_98 ok (sp_n s 2) 1000 0 0 (Nat.zero_add _) (by omega)).trans ?_
      have h6 : k < 6 := by omega
      simp (disch := first | assumption | omega) only [qln, qsn, ql_0, ql_1, ql_2, ql_3, ql_4, ql_5, ql_6, ql_7, ql_62, qs_62, ql_63, qs_63, ql_64, qs_64, ql_117, qs_117, ql_118, qs_118, pl_h_0, ps_h_0, pl_h_1, ps_h_1, pl_h_2, ps_h_2, ps_h_4, ps_h_5, ps_h_6, pl_h_7, ps_h_7, ps_reserved_0, ps_reserved_1, ps_reserved_2, ps_reserved_3, ps_reserved_4, ps_reserved_5, ps_reserved_6, ps_reserved_7, ps_reserved_8, ps_reserved_9, ps_reserved_10, ps_reserved_11, ps_reserved_12, ps_reserved_13, ps_reserved_14, ps_reserved_15, ps_reserved_16, ps_reserved_17, ps_reserved_18, ps_reserved_19, ps_reserved_20, ps_reserved_21, ps_reserved_22, ps_reserved_23, pl_toldAt_0, ps_toldAt_0, pl_toldAt_1, ps_toldAt_1, ps_toldAt_2, ps_toldAt_3, pl_truths_0, px_c8, px_c10, px_c16, px_c20, px_c22, px_c30, px_c36, px_c38, px_c46, px_c54, px_c62, px_c65, px_c73, px_c81, px_c89, px_c97, px_c103, px_c109, px_c119, pr_tape, pln_tape, psn_tape, pr_s, pr_h, pln_h, psn_h, pr_read, pln_read, psn_read, pr_names, pln_names, psn_names, pr_reserved, pln_reserved, psn_reserved, pr_undone, pln_undone, psn_undone, pr_before, pln_before, psn_before, pr_sat, pln_sat, psn_sat, pr_toldAt, pln_toldAt, psn_toldAt, pr_stack, pln_stack, psn_stack, pr_truths, pln_truths, psn_truths, pr_kept, pln_kept, psn_kept, pr_namesKept, pln_namesKept, psn_namesKept, pr_areKept, pln_areKept, psn_areKept, px_c1r, px_rc, px_cI, px_cR, px_cV, px_ckz, px_ckz0, px_ckz1, px_getJ, px_putJ, cz_leti, cz_jn, pg_thrown, pp_thrown, pg_length, pp_length, pg_size, pp_size, pg_p, pp_p, pg_limit, pp_limit, pg_token, pp_token, pg_at, pp_at, pg_span, pp_span, pg_number, pp_number, pg_fault, pp_fault, pg_faultAt, pp_faultAt, pg_got, pp_got, pg_lines, pp_lines, pg_onces, pp_onces, pg_undoMany, pp_undoMany, pg_laidSet, pp_laidSet, pg_hasLaid, pp_hasLaid, pg_turnSet, pp_turnSet, pg_hasTurns, pp_hasTurns, pg_frostDay, pp_frostDay, pg_surelySet, pp_surelySet, pg_neverSet, pp_neverSet, pg_hasHooks, pp_hasHooks, pg_priceNow, pp_priceNow, pg_hasPrice, pp_hasPrice, pg_seed, pp_seed, pg_toldMany, pp_toldMany, pg_hasTold, pp_hasTold, pg_codes, pp_codes, pg_ones, pp_ones, pg_top, pp_top, pg_deep, pp_deep, pg_isWhole, pp_isWhole, px_SAne, px_SL, px_SI, px_SW, px_S1, px_S2, px_S4, px_S3, pm_chill ok h6, pm_coatsAt ok]
      unfold sp_manA
      repeat' split
      all_goals rfl
    · rw [if_neg hw, if_pos rfl, if_neg (by decide), if_neg (fun q => hw q.2)]
  · rw [if_neg hy, if_pos rfl, if_neg (by decide), if_neg (fun q => hy q.1)]
theorem pm_coat {y w : Int32} (hb : h.1.1 ≤ m) (ok : sp_ok s) : fn_X5_coat (some m) y w (px_set h m (px_S M s)) = if (0 ≤ y ∧ y ≤ Int32.ofNat (sp_n s 2) - 1) ∧ 0 ≤ w ∧ w ≤ 4 then some (.inl (some (cz_i (sp_coatA s y.toNatClampNeg w))), px_set h m (px_S (px_I M 0 0) s)) else some (.inl (some (cz_i 0)), px_set h m (px_S (px_I M 0 1) s)) := by
  have h8 := ok.2.2.1.2
  rw [fn_X5_coat, px_rc, pm_isCoat ok, px_cI]
  simp only [cz_jn, pm_isIn, px_cI, px_rc, pm_throws0 hb, pm_throws1 hb]
  by_cases hy : 0 ≤ y ∧ y ≤ Int32.ofNat (sp_n s 2) - 1
  · rw [if_pos hy, if_neg (by decide)]
    by_cases hw : 0 ≤ w ∧ w ≤ 4
    · rw [if_pos hw, if_neg (by decide), if_pos trivial, if_pos (And.intro hy hw)]
      rw [px_range (by omega)] at hy
      obtain ⟨k, hk, rfl⟩ := hy
      rw [Int32.toNatClampNeg_ofNat_of_lt (show k < 2 ^ 31 by omega)]
      simp (disch := first | assumption | omega) only [qln, qsn, ql_0, ql_1, ql_2, ql_3, ql_4, ql_5, ql_6, ql_7, ql_62, qs_62, ql_63, qs_63, ql_64, qs_64, ql_117, qs_117, ql_118, qs_118, pl_h_0, ps_h_0, pl_h_1, ps_h_1, pl_h_2, ps_h_2, ps_h_4, ps_h_5, ps_h_6, pl_h_7, ps_h_7, ps_reserved_0, ps_reserved_1, ps_reserved_2, ps_reserved_3, ps_reserved_4, ps_reserved_5, ps_reserved_6, ps_reserved_7, ps_reserved_8, ps_reserved_9, ps_reserved_10, ps_reserved_11, ps_reserved_12, ps_reserved_13, ps_reserved_14, ps_reserved_15, ps_reserved_16, ps_reserved_17, ps_reserved_18, ps_reserved_19, ps_reserved_20, ps_reserved_21, ps_reserved_22, ps_reserved_23, pl_toldAt_0, ps_toldAt_0, pl_toldAt_1, ps_toldAt_1, ps_toldAt_2, ps_toldAt_3, pl_truths_0, px_c8, px_c10, px_c16, px_c20, px_c22, px_c30, px_c36, px_c38, px_c46, px_c54, px_c62, px_c65, px_c73, px_c81, px_c89, px_c97, px_c103, px_c109, px_c119, pr_tape, pln_tape, psn_tape, pr_s, pr_h, pln_h, psn_h, pr_read, pln_read, psn_read, pr_names, pln_names, psn_names, pr_reserved, pln_reserved, psn_reserved, pr_undone, pln_undone, psn_undone, pr_before, pln_before, psn_before, pr_sat, pln_sat, psn_sat, pr_toldAt, pln_toldAt, psn_toldAt, pr_stack, pln_stack, psn_stack, pr_truths, pln_truths, psn_truths, pr_kept, pln_kept, psn_kept, pr_namesKept, pln_namesKept, psn_namesKept, pr_areKept, pln_areKept, psn_areKept, px_c1r, px_rc, px_cI, px_cR, px_cV, px_ckz, px_ckz0, px_ckz1, px_getJ, px_putJ, cz_leti, cz_jn, pg_thrown, pp_thrown, pg_length, pp_length, pg_size, pp_size, pg_p, pp_p, pg_limit, pp_limit, pg_token, pp_token, pg_at, pp_at, pg_span, pp_span, pg_number, pp_number, pg_fault, pp_fault, pg_faultAt, pp_faultAt, pg_got, pp_got, pg_lines, pp_lines, pg_onces, pp_onces, pg_undoMany, pp_undoMany, pg_laidSet, pp_laidSet, pg_hasLaid, pp_hasLaid, pg_turnSet, pp_turnSet, pg_hasTurns, pp_hasTurns, pg_frostDay, pp_frostDay, pg_surelySet, pp_surelySet, pg_neverSet, pp_neverSet, pg_hasHooks, pp_hasHooks, pg_priceNow, pp_priceNow, pg_hasPrice, pp_hasPrice, pg_seed, pp_seed, pg_toldMany, pp_toldMany, pg_hasTold, pp_hasTold, pg_codes, pp_codes, pg_ones, pp_ones, pg_top, pp_top, pg_deep, pp_deep, pg_isWhole, pp_isWhole, px_SAne, px_SL, px_SI, px_SW, px_S1, px_S2, px_S4, px_S3]
      unfold sp_coatA
      repeat' split
      all_goals rfl
    · rw [if_neg hw, if_pos rfl, if_neg (by decide), if_neg (fun q => hw q.2)]
  · rw [if_neg hy, if_pos rfl, if_neg (by decide), if_neg (fun q => hy q.1)]
end SPG
theorem pc_mk {h : cz_H} {c : cz_C} {n : Nat} {kk : Option Nat → cz_H → cz_Z} (h1 : h.2.1 + 1 ≤ h.1.2.1) (h2 : h.2.2.1 + n ≤ h.1.2.2.1) : cz_mk h c n kk = kk (some h.2.1) (cz_new h c n) := if_pos ⟨h1, h2⟩
section CQE
variable {h : cz_H} {x c : Nat} {X : cx_X} {s : Nat → Int32} {nm : Nat → Int64}
theorem cx_nxt : (cx_set h x X).2.1 = h.2.1 := rfl
theorem cx_env : (cx_set h x X).1 = h.1 := rfl
theorem cx_slt : (cx_set h x X).2.2.1 = h.2.2.1 := rfl
theorem cm_need0 (hn : x + 109 ≤ h.2.1) (h1 : h.2.1 + 1 ≤ h.1.2.1) (h2 : h.2.2.1 + 6 ≤ h.1.2.2.1) : fn_X1_need 0 (cx_set h x X) = some (.inr h.2.1, cx_set (cz_new h (.inl (24, fun _ => cz_i 0)) 6) x X) := by
  rw [fn_X1_need, if_pos rfl]
  unfold cz_newx
  rw [pc_mk (h := cx_set h x X) h1 h2, cx_new h x X hn]
  rfl
theorem n0_heldBy {y : Int32} (H : cx_st h x X 0 c s nm) : fn_X3_heldBy (some (x + 8)) y (cx_set h x X) = some (.inl (some (cz_i (sp_heldBy s y))), cx_set h x X) := by
  have e := rm_heldBy (y := y) (H.is (i := 0) (by omega))
  rw [cx_rid h x X (i := 0) (by omega)] at e
  exact e
theorem n0_worth {y : Int32} (H : cx_st h x X 0 c s nm) : fn_X3_worth (some (x + 8)) y (cx_set h x X) = some (.inl (some (cz_i (sp_worth s y))), cx_set h x X) := by
  have e := rm_worth (y := y) (H.is (i := 0) (by omega))
  rw [cx_rid h x X (i := 0) (by omega)] at e
  exact e
theorem cm_man {y w : Int32} (hc : X.2.1 0 = some c) (H : cx_st h x X 0 c s nm) (hn : x + 109 ≤ h.2.1) (h1 : h.2.1 + 1 ≤ h.1.2.1) (h2 : h.2.2.1 + 6 ≤ h.1.2.2.1) : fn_X1_man (some x) y w (cx_set h x X) = if (0 ≤ y ∧ y ≤ Int32.ofNat (sp_n s 1) - 1) ∧ 0 ≤ w ∧ w ≤ 7 then some (.inl (some (cz_i (sp_manA s y.toNatClampNeg w))), cx_set h x X) else some (.inr h.2.1, cx_set (cz_new h (.inl (24, fun _ => cz_i 0)) 6) x X) := by
  have ok := H.1.1.1.1
  have g0 := ok.1.2
  have g1 := ok.2.1.2
  have g8 := ok.2.2.1.2
  have hcap := H.cap
  rw [fn_X1_man, cx_rc, cm_isMan hc H, px_cI]
  simp only [cz_jn, pc_isIn, px_cI]
  by_cases hy : 0 ≤ y ∧ y ≤ Int32.ofNat (sp_n s 1) - 1
  · rw [if_pos hy, if_neg (by decide)]
    by_cases hw : 0 ≤ w ∧ w ≤ 7
    · rw [if_pos hw, if_neg (by decide), if_pos (And.intro hy hw)]
      rw [px_range (by omega)] at hy
      obtain ⟨k, hk, rfl⟩ := hy
      rw [Int32.toNatClampNeg_ofNat_of_lt (show k < 2 ^ 31 by omega), fn_X1_need, if_neg (by decide)]
      show (if w = 0 then _ else _) = _
      obtain ⟨a1, a2, a3, a4, a5, a6, a7, a8⟩ := H.2.2.2
      have b8 := a8 k hk
      have e1 : fn_X3_chill (some (x + 8)) (Int32.ofNat k) (sp_coatsAt s (Int32.ofNat k)) (s 62) (cx_set h x X) = _ := n0_chill H hk
      simp (disch := omega) only [cx_rc, cg_taped, cg_fault, cg_befores, cg_laid, cg_turns, cg_wins, cg_gives, cg_surely, cg_never, cg_price, cg_tape, cg_capital, cg_now, cg_trial, cg_sentence, cg_before, cg_told, cg_kept, cp_taped, cp_fault, cp_befores, cp_laid, cp_turns, cp_wins, cp_gives, cp_surely, cp_never, cp_price, cp_capital, cp_sentence, cg_kc0, cg_ks0, cg_kr0, cl_kept0, cp_kc0, cp_ks0, cg_kc1, cg_ks1, cg_kr1, cl_kept1, cp_kc1, cp_ks1, cl_tape, cs_tape, cl_told, cs_told, cl_before, px_c1r, px_cI, px_cR, px_cV, px_ckz, px_ckz0, px_ckz1, cz_leti, cz_jn, n0_rc, n0_c, n0_day, n0_bares, n0_firstBare, n0_eaten, n0_queued, n0_at, n0l_at, n0_cloth, n0l_cloth, n0_user, n0l_user, n0_since, n0l_since, n0_queue, n0l_queue, n0_harm, n0l_harm, n0_ruled, n0l_ruled, n1_rc, n1_c, n1_day, n1_bares, n1_firstBare, n1_eaten, n1_queued, n1_at, n1l_at, n1_cloth, n1l_cloth, n1_user, n1l_user, n1_since, n1l_since, n1_queue, n1l_queue, n1_harm, n1l_harm, n1_ruled, n1l_ruled, n0_wornBy H, n0_heldBy H, n0_worth H, hc, pc_crc hcap, pc_coatsOf ok hcap, a1, a4, b8, e1]
      rw [pc_manN (K := fun x97 h95 => some (.inl (some (cz_i x97)), h95)) ok hcap hk, sp_worth_held g0, sp_his_eq g8]
      unfold sp_manA sp_chill
      repeat' split
      all_goals rfl
    · rw [if_neg hw, if_pos rfl, if_neg (fun q => hw q.2), cm_need0 hn h1 h2]
      rfl
  · rw [if_neg hy, if_pos rfl, if_neg (fun q => hy q.1), cm_need0 hn h1 h2]
    rfl
theorem cm_coat {y w : Int32} (hc : X.2.1 0 = some c) (H : cx_st h x X 0 c s nm) (hn : x + 109 ≤ h.2.1) (h1 : h.2.1 + 1 ≤ h.1.2.1) (h2 : h.2.2.1 + 6 ≤ h.1.2.2.1) : fn_X1_coat (some x) y w (cx_set h x X) = if (0 ≤ y ∧ y ≤ Int32.ofNat (sp_n s 2) - 1) ∧ 0 ≤ w ∧ w ≤ 4 then some (.inl (some (cz_i (sp_coatA s y.toNatClampNeg w))), cx_set h x X) else some (.inr h.2.1, cx_set (cz_new h (.inl (24, fun _ => cz_i 0)) 6) x X) := by
  have ok := H.1.1.1.1
  have g8 := ok.2.2.1.2
  have hcap := H.cap
  rw [fn_X1_coat, cx_rc, cm_isCoat hc H, px_cI]
  simp only [cz_jn, pc_isIn, px_cI]
  by_cases hy : 0 ≤ y ∧ y ≤ Int32.ofNat (sp_n s 2) - 1
  · rw [if_pos hy, if_neg (by decide)]
    by_cases hw : 0 ≤ w ∧ w ≤ 4
    · rw [if_pos hw, if_neg (by decide), if_pos (And.intro hy hw)]
      rw [px_range (by omega)] at hy
      obtain ⟨k, hk, rfl⟩ := hy
      rw [Int32.toNatClampNeg_ofNat_of_lt (show k < 2 ^ 31 by omega), fn_X1_need, if_neg (by decide)]
      show (if w = 0 then _ else _) = _
      obtain ⟨a1, a2, a3, a4, a5, a6, a7, a8⟩ := H.2.2.2
      obtain ⟨b1, b2, b3, -⟩ := a6 k hk
      simp (disch := omega) only [cx_rc, cg_taped, cg_fault, cg_befores, cg_laid, cg_turns, cg_wins, cg_gives, cg_surely, cg_never, cg_price, cg_tape, cg_capital, cg_now, cg_trial, cg_sentence, cg_before, cg_told, cg_kept, cp_taped, cp_fault, cp_befores, cp_laid, cp_turns, cp_wins, cp_gives, cp_surely, cp_never, cp_price, cp_capital, cp_sentence, cg_kc0, cg_ks0, cg_kr0, cl_kept0, cp_kc0, cp_ks0, cg_kc1, cg_ks1, cg_kr1, cl_kept1, cp_kc1, cp_ks1, cl_tape, cs_tape, cl_told, cs_told, cl_before, px_c1r, px_cI, px_cR, px_cV, px_ckz, px_ckz0, px_ckz1, cz_leti, cz_jn, n0_rc, n0_c, n0_day, n0_bares, n0_firstBare, n0_eaten, n0_queued, n0_at, n0l_at, n0_cloth, n0l_cloth, n0_user, n0l_user, n0_since, n0l_since, n0_queue, n0l_queue, n0_harm, n0l_harm, n0_ruled, n0l_ruled, n1_rc, n1_c, n1_day, n1_bares, n1_firstBare, n1_eaten, n1_queued, n1_at, n1l_at, n1_cloth, n1l_cloth, n1_user, n1l_user, n1_since, n1l_since, n1_queue, n1l_queue, n1_harm, n1l_harm, n1_ruled, n1l_ruled, hc, b1, b2, b3]
      rw [pc_coatM (K := fun x97 h95 => some (.inl (some (cz_i x97)), h95)) ok hcap hk, pc_coatW (K := fun x97 h95 => some (.inl (some (cz_i x97)), h95)) ok hcap hk]
      unfold sp_coatA
      repeat' split
      all_goals rfl
    · rw [if_neg hw, if_pos rfl, if_neg (fun q => hw q.2), cm_need0 hn h1 h2]
      rfl
  · rw [if_neg hy, if_pos rfl, if_neg (fun q => hy q.1), cm_need0 hn h1 h2]
    rfl
end CQE
