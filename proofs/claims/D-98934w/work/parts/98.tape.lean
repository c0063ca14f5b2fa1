/-! THE PLAIN LAW, 38: the tape -/
set_option maxRecDepth 100000
def sp_byte (v l : Int32) : Int32 := (((v >>> (l &&& 31))).toInt8.toInt32).toInt8.toInt32
def sp_four (v : Int32) (n : Nat) (t : Nat → Int32) : Nat → Int32 := upd (upd (upd (upd t n (sp_byte v 24)) (n + 1) (sp_byte v 16)) (n + 2) (sp_byte v 8)) (n + 3) (sp_byte v 0)
def sp_feed (a b c d e : Int32) (n : Nat) (t : Nat → Int32) : Nat → Int32 := sp_four e (n + 16) (sp_four d (n + 12) (sp_four c (n + 8) (sp_four b (n + 4) (sp_four a n t))))
def cx_B (X : cx_X) (j : Nat) (g : Nat → Int32) : cx_X := (X.1, X.2.1, fun q => if q = j then g else X.2.2.1 q, X.2.2.2)
theorem cx_Bid {X : cx_X} {j : Nat} : cx_B X j (X.2.2.1 j) = X := by
  unfold cx_B
  refine Prod.ext rfl (Prod.ext rfl (Prod.ext ?_ rfl))
  funext q
  dsimp only
  split
  · rename_i e; rw [e]
  · rfl
theorem cx_AB {X : cx_X} {j n : Nat} {v : Int32} {g : Nat → Int32} : cx_A (cx_B X j g) j n v = cx_B X j (upd g n v) := by
  unfold cx_A cx_B
  refine Prod.ext rfl (Prod.ext rfl (Prod.ext ?_ rfl))
  funext q
  dsimp only
  split
  · rw [if_pos rfl]
  · rfl
theorem cx_IA {X : cx_X} {i j n : Nat} {v b : Int32} : cx_A (cx_I X i v) j n b = cx_I (cx_A X j n b) i v := rfl
theorem cx_IB {X : cx_X} {i j : Nat} {v : Int32} {g : Nat → Int32} : cx_B (cx_I X i v) j g = cx_I (cx_B X j g) i v := rfl
theorem cx_II {X : cx_X} {j : Nat} {a b : Int32} : cx_I (cx_I X j a) j b = cx_I X j b := by
  unfold cx_I
  refine Prod.ext ?_ rfl
  funext q
  dsimp only
  split <;> rfl
theorem cx_Iid {X : cx_X} {j : Nat} {v : Int32} (e : X.1 j = v) : cx_I X j v = X := by
  unfold cx_I
  refine Prod.ext ?_ rfl
  funext q
  dsimp only
  split
  · rename_i q; rw [q, e]
  · rfl
theorem px_Iid {M : px_M} {j : Nat} {v : Int32} (e : M.1 j = v) : px_I M j v = M := by
  unfold px_I
  refine Prod.ext ?_ rfl
  funext q
  dsimp only
  split
  · rename_i q; rw [q, e]
  · rfl
section TPA
variable {h : cz_H} {m x : Nat} {M : px_M} {X : cx_X} {s : Nat → Int32}
theorem pm_four_1 {v l : Int32} {n f : Nat} {t : Nat → Int32} {k0 : cz_H → cz_Z} (hb : h.1.1 ≤ m) (hn : n < 940) (hl : ¬ l < 0) : fn_X5_four_3 (some m) v k0 (f + 1) l (px_set h m (px_S (px_B (px_I M 2 (Int32.ofNat n)) 1 t) s)) = fn_X5_four_3 (some m) v k0 f (l + (-8)) (px_set h m (px_S (px_B (px_I M 2 (Int32.ofNat (n + 1))) 1 (upd t n (sp_byte v l))) s)) := by
  rw [fn_X5_four_3, if_neg hl]
  simp (disch := first | assumption | omega) only [qln, qsn, ql_0, ql_1, ql_2, ql_3, ql_4, ql_5, ql_6, ql_7, ql_62, qs_62, ql_63, qs_63, ql_64, qs_64, ql_117, qs_117, ql_118, qs_118, pl_h_0, ps_h_0, pl_h_1, ps_h_1, pl_h_2, ps_h_2, ps_h_4, ps_h_5, ps_h_6, pl_h_7, ps_h_7, ps_reserved_0, ps_reserved_1, ps_reserved_2, ps_reserved_3, ps_reserved_4, ps_reserved_5, ps_reserved_6, ps_reserved_7, ps_reserved_8, ps_reserved_9, ps_reserved_10, ps_reserved_11, ps_reserved_12, ps_reserved_13, ps_reserved_14, ps_reserved_15, ps_reserved_16, ps_reserved_17, ps_reserved_18, ps_reserved_19, ps_reserved_20, ps_reserved_21, ps_reserved_22, ps_reserved_23, pl_toldAt_0, ps_toldAt_0, pl_toldAt_1, ps_toldAt_1, ps_toldAt_2, ps_toldAt_3, pl_truths_0, px_c8, px_c10, px_c16, px_c20, px_c22, px_c30, px_c36, px_c38, px_c46, px_c54, px_c62, px_c65, px_c73, px_c81, px_c89, px_c97, px_c103, px_c109, px_c119, pr_tape, pln_tape, psn_tape, pr_s, pr_h, pln_h, psn_h, pr_read, pln_read, psn_read, pr_names, pln_names, psn_names, pr_reserved, pln_reserved, psn_reserved, pr_undone, pln_undone, psn_undone, pr_before, pln_before, psn_before, pr_sat, pln_sat, psn_sat, pr_toldAt, pln_toldAt, psn_toldAt, pr_stack, pln_stack, psn_stack, pr_truths, pln_truths, psn_truths, pr_kept, pln_kept, psn_kept, pr_namesKept, pln_namesKept, psn_namesKept, pr_areKept, pln_areKept, psn_areKept, px_c1r, px_rc, px_cI, px_cR, px_cV, px_ckz, px_ckz0, px_ckz1, px_getJ, px_putJ, cz_leti, cz_jn, pg_thrown, pp_thrown, pg_length, pp_length, pg_size, pp_size, pg_p, pp_p, pg_limit, pp_limit, pg_token, pp_token, pg_at, pp_at, pg_span, pp_span, pg_number, pp_number, pg_fault, pp_fault, pg_faultAt, pp_faultAt, pg_got, pp_got, pg_lines, pp_lines, pg_onces, pp_onces, pg_undoMany, pp_undoMany, pg_laidSet, pp_laidSet, pg_hasLaid, pp_hasLaid, pg_turnSet, pp_turnSet, pg_hasTurns, pp_hasTurns, pg_frostDay, pp_frostDay, pg_surelySet, pp_surelySet, pg_neverSet, pp_neverSet, pg_hasHooks, pp_hasHooks, pg_priceNow, pp_priceNow, pg_hasPrice, pp_hasPrice, pg_seed, pp_seed, pg_toldMany, pp_toldMany, pg_hasTold, pp_hasTold, pg_codes, pp_codes, pg_ones, pp_ones, pg_top, pp_top, pg_deep, pp_deep, pg_isWhole, pp_isWhole, px_SAne, px_SL, px_SI, px_SW, px_S1, px_S2, px_S4, px_S3, px_B1, px_I1, px_AB, px_BI, px_II]
  rfl
theorem pm_four {v : Int32} {n : Nat} {t : Nat → Int32} (hb : h.1.1 ≤ m) (hn : n + 4 ≤ 940) : fn_X5_four (some m) v (px_set h m (px_S (px_B (px_I M 2 (Int32.ofNat n)) 1 t) s)) = some (.inl none, px_set h m (px_S (px_B (px_I M 2 (Int32.ofNat (n + 4))) 1 (sp_four v n t)) s)) := by
  rw [fn_X5_four, pm_four_1 hb (by omega) (by decide), pm_four_1 hb (by omega) (by decide), pm_four_1 hb (by omega) (by decide), pm_four_1 hb (by omega) (by decide), fn_X5_four_3, if_pos (by decide)]
  rfl
theorem pm_feed {a b c d e : Int32} {n : Nat} (hb : h.1.1 ≤ m) (hl : M.1 2 = Int32.ofNat n) (hn : n ≤ 940) : fn_X5_feed (some m) a b c d e (px_set h m (px_S M s)) = if n + 20 ≤ 940 then some (.inl (some (cz_i (Int32.ofNat (n + 20)))), px_set h m (px_S (px_B (px_I (px_I M 0 0) 2 (Int32.ofNat (n + 20))) 1 (sp_feed a b c d e n (M.2.2.1 1))) s)) else some (.inl (some (cz_i (-1))), px_set h m (px_S (px_I M 0 0) s)) := by
  rw [fn_X5_feed]
  have e20 : Int32.ofNat n + 20 = Int32.ofNat (n + 20) := (Int32.ofNat_add n 20).symm
  simp (disch := first | assumption | omega) only [pp_thrown, px_SI, pg_length, px_S1, px_I1n, hl, e20]
  have q : (Int32.ofNat (n + 20) ≤ 940) = (n + 20 ≤ 940) := by rw [show (940 : Int32) = Int32.ofNat 940 from rfl, px_le (by omega) (by omega)]
  by_cases hf : n + 20 ≤ 940
  · rw [if_pos (by rw [q]; exact hf), if_pos hf]
    have st : px_set h m (px_S (px_I M 0 0) s) = px_set h m (px_S (px_B (px_I (px_I M 0 0) 2 (Int32.ofNat n)) 1 (M.2.2.1 1)) s) := by
      rw [px_Iid (M := px_I M 0 0) (j := 2) (by rw [px_I1n (by decide)]; exact hl)]
      have : M.2.2.1 1 = (px_I M 0 0).2.2.1 1 := rfl
      rw [this, px_Bid]
    rw [st, px_rc, pm_four hb (by omega), px_cV, px_rc, pm_four hb (by omega), px_cV, px_rc, pm_four hb (by omega), px_cV, px_rc, pm_four hb (by omega), px_cV, px_rc, pm_four hb (by omega), px_cV]
    simp (disch := first | assumption | omega) only [pg_length, px_S1, px_B1, px_I1]
    rfl
  · rw [if_neg (by rw [q]; exact hf), if_neg hf]
theorem cm_four_1 {v l : Int32} {n f : Nat} {t : Nat → Int32} {k0 : cz_H → cz_Z} (hb : h.1.1 ≤ x) (hn : n < 940) (hl : ¬ l < 0) : fn_X1_come_3 (some x) v k0 (f + 1) l (cx_set h x (cx_I (cx_B X 0 t) 1 (Int32.ofNat n))) = fn_X1_come_3 (some x) v k0 f (l + (-8)) (cx_set h x (cx_I (cx_B X 0 (upd t n (sp_byte v l))) 1 (Int32.ofNat (n + 1)))) := by
  rw [fn_X1_come_3, if_neg hl, cg_tape, cg_taped, cx_Ie, cs_tape hn hb, cg_taped, cp_taped hb, cx_IA, cx_AB, cx_Ie, px_c1r, cx_II]
  rfl
theorem cm_four {v : Int32} {n : Nat} {t : Nat → Int32} (hb : h.1.1 ≤ x) (hn : n + 4 ≤ 940) : fn_X1_come (some x) v (cx_set h x (cx_I (cx_B X 0 t) 1 (Int32.ofNat n))) = some (.inl none, cx_set h x (cx_I (cx_B X 0 (sp_four v n t)) 1 (Int32.ofNat (n + 4)))) := by
  rw [fn_X1_come, cm_four_1 hb (by omega) (by decide), cm_four_1 hb (by omega) (by decide), cm_four_1 hb (by omega) (by decide), cm_four_1 hb (by omega) (by decide), fn_X1_come_3, if_pos (by decide)]
  rfl
theorem cm_feed {a b c d e : Int32} {n : Nat} (hb : h.1.1 ≤ x) (hl : X.1 1 = Int32.ofNat n) (hn : n ≤ 940) : fn_X1_feed (some x) a b c d e (cx_set h x X) = if n + 20 ≤ 940 then some (.inl (some (cz_i (Int32.ofNat (n + 20)))), cx_set h x (cx_I (cx_B X 0 (sp_feed a b c d e n (X.2.2.1 0))) 1 (Int32.ofNat (n + 20)))) else some (.inl (some (cz_i (-1))), cx_set h x X) := by
  rw [fn_X1_feed, cg_taped, hl, show Int32.ofNat n + 20 = Int32.ofNat (n + 20) from (Int32.ofNat_add n 20).symm]
  have q : (Int32.ofNat (n + 20) ≤ 940) = (n + 20 ≤ 940) := by rw [show (940 : Int32) = Int32.ofNat 940 from rfl, px_le (by omega) (by omega)]
  by_cases hf : n + 20 ≤ 940
  · rw [if_pos (by rw [q]; exact hf), if_pos hf]
    have st : cx_set h x X = cx_set h x (cx_I (cx_B X 0 (X.2.2.1 0)) 1 (Int32.ofNat n)) := by rw [cx_Bid, cx_Iid hl]
    rw [st, cx_rc, cm_four hb (by omega), px_cV, cx_rc, cm_four hb (by omega), px_cV, cx_rc, cm_four hb (by omega), px_cV, cx_rc, cm_four hb (by omega), px_cV, cx_rc, cm_four hb (by omega), px_cV, cg_taped, cx_Ie]
    rfl
  · rw [if_neg (by rw [q]; exact hf), if_neg hf]
theorem pm_end {y : Int32} {n : Nat} (hb : h.1.1 ≤ m) (hl : M.1 2 = Int32.ofNat n) : fn_X5_end (some m) y (px_set h m (px_S M s)) = if ¬ y < 0 ∧ y ≤ Int32.ofNat n then some (.inl (some (cz_i 1)), px_set h m (px_S (px_I (px_I M 0 0) 2 y) s)) else some (.inl (some (cz_i 0)), px_set h m (px_S (px_I M 0 0) s)) := by
  rw [fn_X5_end]
  simp (disch := first | assumption | omega) only [qln, qsn, ql_0, ql_1, ql_2, ql_3, ql_4, ql_5, ql_6, ql_7, ql_62, qs_62, ql_63, qs_63, ql_64, qs_64, ql_117, qs_117, ql_118, qs_118, pl_h_0, ps_h_0, pl_h_1, ps_h_1, pl_h_2, ps_h_2, ps_h_4, ps_h_5, ps_h_6, pl_h_7, ps_h_7, ps_reserved_0, ps_reserved_1, ps_reserved_2, ps_reserved_3, ps_reserved_4, ps_reserved_5, ps_reserved_6, ps_reserved_7, ps_reserved_8, ps_reserved_9, ps_reserved_10, ps_reserved_11, ps_reserved_12, ps_reserved_13, ps_reserved_14, ps_reserved_15, ps_reserved_16, ps_reserved_17, ps_reserved_18, ps_reserved_19, ps_reserved_20, ps_reserved_21, ps_reserved_22, ps_reserved_23, pl_toldAt_0, ps_toldAt_0, pl_toldAt_1, ps_toldAt_1, ps_toldAt_2, ps_toldAt_3, pl_truths_0, px_c8, px_c10, px_c16, px_c20, px_c22, px_c30, px_c36, px_c38, px_c46, px_c54, px_c62, px_c65, px_c73, px_c81, px_c89, px_c97, px_c103, px_c109, px_c119, pr_tape, pln_tape, psn_tape, pr_s, pr_h, pln_h, psn_h, pr_read, pln_read, psn_read, pr_names, pln_names, psn_names, pr_reserved, pln_reserved, psn_reserved, pr_undone, pln_undone, psn_undone, pr_before, pln_before, psn_before, pr_sat, pln_sat, psn_sat, pr_toldAt, pln_toldAt, psn_toldAt, pr_stack, pln_stack, psn_stack, pr_truths, pln_truths, psn_truths, pr_kept, pln_kept, psn_kept, pr_namesKept, pln_namesKept, psn_namesKept, pr_areKept, pln_areKept, psn_areKept, px_c1r, px_rc, px_cI, px_cR, px_cV, px_ckz, px_ckz0, px_ckz1, px_getJ, px_putJ, cz_leti, cz_jn, pg_thrown, pp_thrown, pg_length, pp_length, pg_size, pp_size, pg_p, pp_p, pg_limit, pp_limit, pg_token, pp_token, pg_at, pp_at, pg_span, pp_span, pg_number, pp_number, pg_fault, pp_fault, pg_faultAt, pp_faultAt, pg_got, pp_got, pg_lines, pp_lines, pg_onces, pp_onces, pg_undoMany, pp_undoMany, pg_laidSet, pp_laidSet, pg_hasLaid, pp_hasLaid, pg_turnSet, pp_turnSet, pg_hasTurns, pp_hasTurns, pg_frostDay, pp_frostDay, pg_surelySet, pp_surelySet, pg_neverSet, pp_neverSet, pg_hasHooks, pp_hasHooks, pg_priceNow, pp_priceNow, pg_hasPrice, pp_hasPrice, pg_seed, pp_seed, pg_toldMany, pp_toldMany, pg_hasTold, pp_hasTold, pg_codes, pp_codes, pg_ones, pp_ones, pg_top, pp_top, pg_deep, pp_deep, pg_isWhole, pp_isWhole, px_SAne, px_SL, px_SI, px_SW, px_S1, px_S2, px_S4, px_S3, px_I1n, hl]
  by_cases a : y < 0
  · rw [if_pos a, if_neg (fun q => q.1 a)]
  · rw [if_neg a]
    by_cases b : y ≤ Int32.ofNat n
    · rw [if_pos b, if_pos ⟨a, b⟩]
    · rw [if_neg b, if_neg (fun q => b q.2)]
theorem cm_end {y : Int32} {n : Nat} (hb : h.1.1 ≤ x) (hl : X.1 1 = Int32.ofNat n) : fn_X1_end (some x) y (cx_set h x X) = if ¬ y < 0 ∧ y ≤ Int32.ofNat n then some (.inl (some (cz_i 1)), cx_set h x (cx_I X 1 y)) else some (.inl (some (cz_i 0)), cx_set h x X) := by
  rw [fn_X1_end]
  simp (disch := first | assumption | omega) only [cx_rc, cg_taped, cg_fault, cg_befores, cg_laid, cg_turns, cg_wins, cg_gives, cg_surely, cg_never, cg_price, cg_tape, cg_capital, cg_now, cg_trial, cg_sentence, cg_before, cg_told, cg_kept, cp_taped, cp_fault, cp_befores, cp_laid, cp_turns, cp_wins, cp_gives, cp_surely, cp_never, cp_price, cp_capital, cp_sentence, cg_kc0, cg_ks0, cg_kr0, cl_kept0, cp_kc0, cp_ks0, cg_kc1, cg_ks1, cg_kr1, cl_kept1, cp_kc1, cp_ks1, cl_tape, cs_tape, cl_told, cs_told, cl_before, px_c1r, px_cI, px_cR, px_cV, px_ckz, px_ckz0, px_ckz1, cz_leti, cz_jn, n0_rc, n0_c, n0_day, n0_bares, n0_firstBare, n0_eaten, n0_queued, n0_at, n0l_at, n0_cloth, n0l_cloth, n0_user, n0l_user, n0_since, n0l_since, n0_queue, n0l_queue, n0_harm, n0l_harm, n0_ruled, n0l_ruled, n1_rc, n1_c, n1_day, n1_bares, n1_firstBare, n1_eaten, n1_queued, n1_at, n1l_at, n1_cloth, n1l_cloth, n1_user, n1l_user, n1_since, n1l_since, n1_queue, n1l_queue, n1_harm, n1l_harm, n1_ruled, n1l_ruled, hl]
  by_cases a : y < 0
  · rw [if_pos a, if_neg (fun q => q.1 a)]
  · rw [if_neg a]
    by_cases b : y ≤ Int32.ofNat n
    · rw [if_pos b, if_pos ⟨a, b⟩]
    · rw [if_neg b, if_neg (fun q => b q.2)]
end TPA
