/-! THE PLAIN LAW, 34: what is asked -/
set_option maxRecDepth 100000
section CQA
variable {h : cz_H} {c : Nat} {s : Nat → Int32} {nm : Nat → Int64}
theorem pc_isSeat {y : Int32} (hC : pc_Cap h.2.2.2 c s nm) : fn_X2_isSeat (some c) y h = some (.inl (some (cz_i (if 0 ≤ y ∧ y ≤ Int32.ofNat (sp_n s 0) - 1 then 1 else 0))), h) := by
  obtain ⟨V, ls, lm, lc, f0, f1, g0, g1, v1, v2, v3, v4, v5, v6, v7, v8, v9, v10, v11, v12, v13, v14, l1, l2, l3⟩ := hC
  rw [fn_X2_isSeat, pc_getR v1 v7 rfl, pc_lrc l1, pc_size l1, px_cI, pc_isIn, px_cI, px_ckz]
theorem pc_isMan {y : Int32} (hC : pc_Cap h.2.2.2 c s nm) : fn_X2_isMan (some c) y h = some (.inl (some (cz_i (if 0 ≤ y ∧ y ≤ Int32.ofNat (sp_n s 1) - 1 then 1 else 0))), h) := by
  obtain ⟨V, ls, lm, lc, f0, f1, g0, g1, v1, v2, v3, v4, v5, v6, v7, v8, v9, v10, v11, v12, v13, v14, l1, l2, l3⟩ := hC
  rw [fn_X2_isMan, pc_getR v1 v8 rfl, pc_lrc l2, pc_size l2, px_cI, pc_isIn, px_cI, px_ckz]
theorem pc_isCoat {y : Int32} (hC : pc_Cap h.2.2.2 c s nm) : fn_X2_isCoat (some c) y h = some (.inl (some (cz_i (if 0 ≤ y ∧ y ≤ Int32.ofNat (sp_n s 2) - 1 then 1 else 0))), h) := by
  obtain ⟨V, ls, lm, lc, f0, f1, g0, g1, v1, v2, v3, v4, v5, v6, v7, v8, v9, v10, v11, v12, v13, v14, l1, l2, l3⟩ := hC
  rw [fn_X2_isCoat, pc_getR v1 v9 rfl, pc_lrc l3, pc_size l3, px_cI, pc_isIn, px_cI, px_ckz]
/-- the coats of a man, as told -/
def sp_coatsOf (s : Nat → Int32) (y : Int32) : Int32 := sp_fold (fun c a => if s (22 + c) = y then a ||| ((1 : Int32) <<< (Int32.ofNat c &&& 31)) else a) (sp_n s 2) 0 0
theorem pc_coatsOf_4 {y : Int32} {k0 : Int32 → cz_H → cz_Z} (ok : sp_ok s) (hC : pc_Cap h.2.2.2 c s nm) : ∀ (n f k : Nat) (a : Int32), k + n = sp_n s 2 → n < f → fn_X2_coatsOf_4 (some c) y k0 f a (Int32.ofNat k) h = k0 (sp_fold (fun c a => if s (22 + c) = y then a ||| ((1 : Int32) <<< (Int32.ofNat c &&& 31)) else a) n k a) h := by
  have h8 := ok.2.2.1.2
  have hC2 := hC
  obtain ⟨V, ls, lm, lc, f0, f1, g0, g1, v1, v2, v3, v4, v5, v6, v7, v8, v9, v10, v11, v12, v13, v14, l1, l2, l3⟩ := hC
  intro n
  induction n with
  | zero =>
    intro f k a hk hf
    obtain ⟨f, rfl⟩ : ∃ g, f = g + 1 := ⟨f - 1, by omega⟩
    rw [fn_X2_coatsOf_4, pc_getR v1 v9 rfl, pc_lrc l3, pc_size l3, px_cI, if_pos (by rw [px_le (by omega) (by omega)]; omega)]
    rfl
  | succ n ih =>
    intro f k a hk hf
    obtain ⟨f, rfl⟩ : ∃ g, f = g + 1 := ⟨f - 1, by omega⟩
    rw [fn_X2_coatsOf_4, pc_getR v1 v9 rfl, pc_lrc l3, pc_size l3, px_cI, if_neg (by rw [px_le (by omega) (by omega)]; omega)]
    refine (pc_coatM (i := k) ok hC2 (by omega)).trans ?_
    simp only [cz_leti, px_c1r]
    rw [sp_fold]
    split
    · exact ih f (k + 1) _ (by omega) (by omega)
    · exact ih f (k + 1) _ (by omega) (by omega)
theorem pc_coatsOf {y : Int32} (ok : sp_ok s) (hC : pc_Cap h.2.2.2 c s nm) : fn_X2_coatsOf (some c) y h = some (.inl (some (cz_i (sp_coatsOf s y))), h) := by
  have h8 := ok.2.2.1.2
  rw [fn_X2_coatsOf]
  exact pc_coatsOf_4 ok hC (sp_n s 2) 1000 0 0 (Nat.zero_add _) (by omega)
end CQA
section CQB
variable {h : cz_H} {x i c : Nat} {X : cx_X} {s : Nat → Int32} {nm : Nat → Int64}
theorem cx_st.cap (H : cx_st h x X i c s nm) : pc_Cap (cx_set h x X).2.2.2 c s nm := H.2.2.1.mono cx_no_in
theorem cm_isSeat {y : Int32} (hc : X.2.1 0 = some c) (H : cx_st h x X 0 c s nm) : fn_X1_isSeat (some x) y (cx_set h x X) = some (.inl (some (cz_i (if 0 ≤ y ∧ y ≤ Int32.ofNat (sp_n s 0) - 1 then 1 else 0))), cx_set h x X) := by
  rw [fn_X1_isSeat, cg_capital, hc, pc_crc H.cap, pc_isSeat H.cap, px_cI, px_ckz]
theorem cm_isMan {y : Int32} (hc : X.2.1 0 = some c) (H : cx_st h x X 0 c s nm) : fn_X1_isMan (some x) y (cx_set h x X) = some (.inl (some (cz_i (if 0 ≤ y ∧ y ≤ Int32.ofNat (sp_n s 1) - 1 then 1 else 0))), cx_set h x X) := by
  rw [fn_X1_isMan, cg_capital, hc, pc_crc H.cap, pc_isMan H.cap, px_cI, px_ckz]
theorem cm_isCoat {y : Int32} (hc : X.2.1 0 = some c) (H : cx_st h x X 0 c s nm) : fn_X1_isCoat (some x) y (cx_set h x X) = some (.inl (some (cz_i (if 0 ≤ y ∧ y ≤ Int32.ofNat (sp_n s 2) - 1 then 1 else 0))), cx_set h x X) := by
  rw [fn_X1_isCoat, cg_capital, hc, pc_crc H.cap, pc_isCoat H.cap, px_cI, px_ckz]
theorem cm_seats (hc : X.2.1 0 = some c) (H : cx_st h x X 0 c s nm) : fn_X1_seats (some x) (cx_set h x X) = some (.inl (some (cz_i (Int32.ofNat (sp_n s 0)))), cx_set h x X) := by
  obtain ⟨V, ls, lm, lc, f0, f1, g0, g1, v1, v2, v3, v4, v5, v6, v7, v8, v9, v10, v11, v12, v13, v14, l1, l2, l3⟩ := H.cap
  rw [fn_X1_seats, cg_capital, hc, pc_getR v1 v7 rfl, pc_lrc l1, pc_size l1, px_cI]
theorem cm_men (hc : X.2.1 0 = some c) (H : cx_st h x X 0 c s nm) : fn_X1_men (some x) (cx_set h x X) = some (.inl (some (cz_i (Int32.ofNat (sp_n s 1)))), cx_set h x X) := by
  obtain ⟨V, ls, lm, lc, f0, f1, g0, g1, v1, v2, v3, v4, v5, v6, v7, v8, v9, v10, v11, v12, v13, v14, l1, l2, l3⟩ := H.cap
  rw [fn_X1_men, cg_capital, hc, pc_getR v1 v8 rfl, pc_lrc l2, pc_size l2, px_cI]
theorem cm_coats (hc : X.2.1 0 = some c) (H : cx_st h x X 0 c s nm) : fn_X1_coats (some x) (cx_set h x X) = some (.inl (some (cz_i (Int32.ofNat (sp_n s 2)))), cx_set h x X) := by
  obtain ⟨V, ls, lm, lc, f0, f1, g0, g1, v1, v2, v3, v4, v5, v6, v7, v8, v9, v10, v11, v12, v13, v14, l1, l2, l3⟩ := H.cap
  rw [fn_X1_coats, cg_capital, hc, pc_getR v1 v9 rfl, pc_lrc l3, pc_size l3, px_cI]
end CQB
/-- a question: both answer a, and nothing changes but 'thrown' -/
def qa (h : cz_H) (x : Nat) (X : cx_X) (s : Nat → Int32) (M : px_M) (fc fr : Option Nat → cz_H → cz_Z) : Prop := ∃ a : Int32, fc (some x) (cx_set h x X) = some (.inl (some (cz_i a)), cx_set h x X) ∧ ∀ (g : cz_H) (m : Nat), g.1.1 ≤ m → fr (some m) (px_set g m (px_S M s)) = some (.inl (some (cz_i a)), px_set g m (px_S (px_I M 0 0) s))
section CQC
variable {h : cz_H} {x c : Nat} {X : cx_X} {s : Nat → Int32} {nm : Nat → Int64} {M : px_M}
theorem qa_seat {y w : Int32} (hc : X.2.1 0 = some c) (H : cx_st h x X 0 c s nm) : qa h x X s M (fun r g => fn_X1_seat r y w g) (fun r g => fn_X5_seat r y w g) := by
  have ok := H.1.1.1.1
  have h0 := ok.1.2
  have h8 := ok.2.2.1.2
  have hcap := H.cap
  unfold qa
  by_cases hy : 0 ≤ y ∧ y ≤ Int32.ofNat (sp_n s 0) - 1
  · have ep := hy
    rw [px_range (by omega)] at hy
    obtain ⟨k, hk, rfl⟩ := hy
    have ref : ∀ (g : cz_H) (m : Nat), g.1.1 ≤ m → fn_X5_seat (some m) (Int32.ofNat k) w (px_set g m (px_S M s)) = (if w = 0 then some (.inl (some (cz_i (s (8 + k)))), px_set g m (px_S (px_I M 0 0) s)) else if w = 1 then some (.inl (some (cz_i (sp_coatOn s (Int32.ofNat k)))), px_set g m (px_S (px_I M 0 0) s)) else if w = 2 then some (.inl (some (cz_i (sp_holder s (Int32.ofNat k)))), px_set g m (px_S (px_I M 0 0) s)) else if w = 3 then (if 0 ≤ sp_coatOn s (Int32.ofNat k) then cz_iald (px_set g m (px_S (px_I M 0 0) s)) (some (m + 2)) (89 + sp_coatOn s (Int32.ofNat k)) (fun x19 => some (.inl (some (cz_i x19)), px_set g m (px_S (px_I M 0 0) s))) else some (.inl (some (cz_i 0)), px_set g m (px_S (px_I M 0 0) s))) else some (.inl (some (cz_i (-1))), px_set g m (px_S (px_I M 0 0) s))) := by
      intro g m hb
      rw [fn_X5_seat]
      simp (disch := first | assumption | omega) only [qln, qsn, ql_0, ql_1, ql_2, ql_3, ql_4, ql_5, ql_6, ql_7, ql_62, qs_62, ql_63, qs_63, ql_64, qs_64, ql_117, qs_117, ql_118, qs_118, pl_h_0, ps_h_0, pl_h_1, ps_h_1, pl_h_2, ps_h_2, ps_h_4, ps_h_5, ps_h_6, pl_h_7, ps_h_7, ps_reserved_0, ps_reserved_1, ps_reserved_2, ps_reserved_3, ps_reserved_4, ps_reserved_5, ps_reserved_6, ps_reserved_7, ps_reserved_8, ps_reserved_9, ps_reserved_10, ps_reserved_11, ps_reserved_12, ps_reserved_13, ps_reserved_14, ps_reserved_15, ps_reserved_16, ps_reserved_17, ps_reserved_18, ps_reserved_19, ps_reserved_20, ps_reserved_21, ps_reserved_22, ps_reserved_23, pl_toldAt_0, ps_toldAt_0, pl_toldAt_1, ps_toldAt_1, ps_toldAt_2, ps_toldAt_3, pl_truths_0, px_c8, px_c10, px_c16, px_c20, px_c22, px_c30, px_c36, px_c38, px_c46, px_c54, px_c62, px_c65, px_c73, px_c81, px_c89, px_c97, px_c103, px_c109, px_c119, pr_tape, pln_tape, psn_tape, pr_s, pr_h, pln_h, psn_h, pr_read, pln_read, psn_read, pr_names, pln_names, psn_names, pr_reserved, pln_reserved, psn_reserved, pr_undone, pln_undone, psn_undone, pr_before, pln_before, psn_before, pr_sat, pln_sat, psn_sat, pr_toldAt, pln_toldAt, psn_toldAt, pr_stack, pln_stack, psn_stack, pr_truths, pln_truths, psn_truths, pr_kept, pln_kept, psn_kept, pr_namesKept, pln_namesKept, psn_namesKept, pr_areKept, pln_areKept, psn_areKept, px_c1r, px_rc, px_cI, px_cR, px_cV, px_ckz, px_ckz0, px_ckz1, px_getJ, px_putJ, cz_leti, cz_jn, pg_thrown, pp_thrown, pg_length, pp_length, pg_size, pp_size, pg_p, pp_p, pg_limit, pp_limit, pg_token, pp_token, pg_at, pp_at, pg_span, pp_span, pg_number, pp_number, pg_fault, pp_fault, pg_faultAt, pp_faultAt, pg_got, pp_got, pg_lines, pp_lines, pg_onces, pp_onces, pg_undoMany, pp_undoMany, pg_laidSet, pp_laidSet, pg_hasLaid, pp_hasLaid, pg_turnSet, pp_turnSet, pg_hasTurns, pp_hasTurns, pg_frostDay, pp_frostDay, pg_surelySet, pp_surelySet, pg_neverSet, pp_neverSet, pg_hasHooks, pp_hasHooks, pg_priceNow, pp_priceNow, pg_hasPrice, pp_hasPrice, pg_seed, pp_seed, pg_toldMany, pp_toldMany, pg_hasTold, pp_hasTold, pg_codes, pp_codes, pg_ones, pp_ones, pg_top, pp_top, pg_deep, pp_deep, pg_isWhole, pp_isWhole, px_SAne, px_SL, px_SI, px_SW, px_S1, px_S2, px_S4, px_S3, pm_isSeat ok, pm_coatOn ok, pm_holder ok]
      rw [if_pos ep, if_neg (by decide)]
    have com : fn_X1_seat (some x) (Int32.ofNat k) w (cx_set h x X) = (if w = 0 then some (.inl (some (cz_i (s (8 + k)))), cx_set h x X) else if w = 1 then some (.inl (some (cz_i (sp_coatOn s (Int32.ofNat k)))), cx_set h x X) else if w = 2 then some (.inl (some (cz_i (sp_holder s (Int32.ofNat k)))), cx_set h x X) else if w = 3 then cz_cI (fn_X1_lain (some (x + 8)) (Int32.ofNat k) (cx_set h x X)) (fun x11 h10 => some (.inl (some (cz_i x11)), h10)) else some (.inl (some (cz_i (-1))), cx_set h x X)) := by
      rw [fn_X1_seat, cx_rc, cm_isSeat hc H, px_cI, if_pos ep, if_neg (by decide)]
      simp only [cx_rc, cg_taped, cg_fault, cg_befores, cg_laid, cg_turns, cg_wins, cg_gives, cg_surely, cg_never, cg_price, cg_tape, cg_capital, cg_now, cg_trial, cg_sentence, cg_before, cg_told, cg_kept, cp_taped, cp_fault, cp_befores, cp_laid, cp_turns, cp_wins, cp_gives, cp_surely, cp_never, cp_price, cp_capital, cp_sentence, cg_kc0, cg_ks0, cg_kr0, cl_kept0, cp_kc0, cp_ks0, cg_kc1, cg_ks1, cg_kr1, cl_kept1, cp_kc1, cp_ks1, cl_tape, cs_tape, cl_told, cs_told, cl_before, px_c1r, px_cI, px_cR, px_cV, px_ckz, px_ckz0, px_ckz1, cz_leti, cz_jn, n0_rc, n0_c, n0_day, n0_bares, n0_firstBare, n0_eaten, n0_queued, n0_at, n0l_at, n0_cloth, n0l_cloth, n0_user, n0l_user, n0_since, n0l_since, n0_queue, n0l_queue, n0_harm, n0l_harm, n0_ruled, n0l_ruled, n1_rc, n1_c, n1_day, n1_bares, n1_firstBare, n1_eaten, n1_queued, n1_at, n1l_at, n1_cloth, n1l_cloth, n1_user, n1l_user, n1_since, n1l_since, n1_queue, n1l_queue, n1_harm, n1l_harm, n1_ruled, n1l_ruled, n0_on H, n0_holder H, hc]
      rw [pc_seatN (K := fun x40 h38 => some (.inl (some (cz_i x40)), h38)) ok hcap hk]
    by_cases w0 : w = 0
    · exact ⟨s (8 + k), by dsimp only; rw [com, if_pos w0], fun g m hb => by dsimp only; rw [ref g m hb, if_pos w0]⟩
    by_cases w1 : w = 1
    · exact ⟨_, by dsimp only; rw [com, if_neg w0, if_pos w1], fun g m hb => by dsimp only; rw [ref g m hb, if_neg w0, if_pos w1]⟩
    by_cases w2 : w = 2
    · exact ⟨_, by dsimp only; rw [com, if_neg w0, if_neg w1, if_pos w2], fun g m hb => by dsimp only; rw [ref g m hb, if_neg w0, if_neg w1, if_pos w2]⟩
    by_cases w3 : w = 3
    · rcases sp_coatOn_is s (Int32.ofNat k) with e | ⟨q, h1, h2, e⟩
      · refine ⟨0, ?_, fun g m hb => ?_⟩
        · dsimp only
          rw [com, if_neg w0, if_neg w1, if_neg w2, if_pos w3, fn_X1_lain, n0_rc, n0_on H, px_cI, if_pos e, px_cI]
        · dsimp only
          rw [ref g m hb, if_neg w0, if_neg w1, if_neg w2, if_pos w3, e, if_neg (by decide)]
      · refine ⟨s (89 + q), ?_, fun g m hb => ?_⟩
        · dsimp only
          have b := (H.2.2.2.2.2.2.2.2.1 q h1).2.2.2 (by rw [h2, px_c10, show (10 : Int32) = Int32.ofNat 10 from rfl, px_le (by omega) (by omega)]; omega) (by rw [h2, px_c10, show (17 : Int32) = Int32.ofNat 17 from rfl, px_le (by omega) (by omega)]; omega)
          rw [com, if_neg w0, if_neg w1, if_neg w2, if_pos w3, fn_X1_lain, n0_rc, n0_on H, px_cI, e, if_neg (px_pos (by omega)), n0_day, n0_since, n0_rc, n0_on H, px_cI, e, n0l_since (by omega), px_cI, H.2.2.2.1, b]
          congr 4
          grind
        · dsimp only
          rw [ref g m hb, if_neg w0, if_neg w1, if_neg w2, if_pos w3, e, if_pos (px_nn q (by omega)), px_c89, qln (by omega)]
    · exact ⟨-1, by dsimp only; rw [com, if_neg w0, if_neg w1, if_neg w2, if_neg w3], fun g m hb => by dsimp only; rw [ref g m hb, if_neg w0, if_neg w1, if_neg w2, if_neg w3]⟩
  · refine ⟨-1, ?_, fun g m hb => ?_⟩
    · dsimp only
      rw [fn_X1_seat, cx_rc, cm_isSeat hc H, px_cI, if_neg hy, if_pos rfl]
    · dsimp only
      rw [fn_X5_seat]
      simp (disch := first | assumption | omega) only [qln, qsn, ql_0, ql_1, ql_2, ql_3, ql_4, ql_5, ql_6, ql_7, ql_62, qs_62, ql_63, qs_63, ql_64, qs_64, ql_117, qs_117, ql_118, qs_118, pl_h_0, ps_h_0, pl_h_1, ps_h_1, pl_h_2, ps_h_2, ps_h_4, ps_h_5, ps_h_6, pl_h_7, ps_h_7, ps_reserved_0, ps_reserved_1, ps_reserved_2, ps_reserved_3, ps_reserved_4, ps_reserved_5, ps_reserved_6, ps_reserved_7, ps_reserved_8, ps_reserved_9, ps_reserved_10, ps_reserved_11, ps_reserved_12, ps_reserved_13, ps_reserved_14, ps_reserved_15, ps_reserved_16, ps_reserved_17, ps_reserved_18, ps_reserved_19, ps_reserved_20, ps_reserved_21, ps_reserved_22, ps_reserved_23, pl_toldAt_0, ps_toldAt_0, pl_toldAt_1, ps_toldAt_1, ps_toldAt_2, ps_toldAt_3, pl_truths_0, px_c8, px_c10, px_c16, px_c20, px_c22, px_c30, px_c36, px_c38, px_c46, px_c54, px_c62, px_c65, px_c73, px_c81, px_c89, px_c97, px_c103, px_c109, px_c119, pr_tape, pln_tape, psn_tape, pr_s, pr_h, pln_h, psn_h, pr_read, pln_read, psn_read, pr_names, pln_names, psn_names, pr_reserved, pln_reserved, psn_reserved, pr_undone, pln_undone, psn_undone, pr_before, pln_before, psn_before, pr_sat, pln_sat, psn_sat, pr_toldAt, pln_toldAt, psn_toldAt, pr_stack, pln_stack, psn_stack, pr_truths, pln_truths, psn_truths, pr_kept, pln_kept, psn_kept, pr_namesKept, pln_namesKept, psn_namesKept, pr_areKept, pln_areKept, psn_areKept, px_c1r, px_rc, px_cI, px_cR, px_cV, px_ckz, px_ckz0, px_ckz1, px_getJ, px_putJ, cz_leti, cz_jn, pg_thrown, pp_thrown, pg_length, pp_length, pg_size, pp_size, pg_p, pp_p, pg_limit, pp_limit, pg_token, pp_token, pg_at, pp_at, pg_span, pp_span, pg_number, pp_number, pg_fault, pp_fault, pg_faultAt, pp_faultAt, pg_got, pp_got, pg_lines, pp_lines, pg_onces, pp_onces, pg_undoMany, pp_undoMany, pg_laidSet, pp_laidSet, pg_hasLaid, pp_hasLaid, pg_turnSet, pp_turnSet, pg_hasTurns, pp_hasTurns, pg_frostDay, pp_frostDay, pg_surelySet, pp_surelySet, pg_neverSet, pp_neverSet, pg_hasHooks, pp_hasHooks, pg_priceNow, pp_priceNow, pg_hasPrice, pp_hasPrice, pg_seed, pp_seed, pg_toldMany, pp_toldMany, pg_hasTold, pp_hasTold, pg_codes, pp_codes, pg_ones, pp_ones, pg_top, pp_top, pg_deep, pp_deep, pg_isWhole, pp_isWhole, px_SAne, px_SL, px_SI, px_SW, px_S1, px_S2, px_S4, px_S3, pm_isSeat ok]
      rw [if_neg hy, if_pos rfl]
theorem qa_now {w : Int32} (hc : X.2.1 0 = some c) (H : cx_st h x X 0 c s nm) : qa h x X s M (fun r g => fn_X1_now r w g) (fun r g => fn_X5_now r w g) := by
  have ok := H.1.1.1.1
  have hcap := H.cap
  have hd := H.1.1.2.1
  obtain ⟨a1, a2, a3, a4, a5, -⟩ := H.2.2.2
  refine ⟨if w = 0 then s 62 else if w = 1 then sp_coldOn s (s 62) else if w = 2 then (if sp_coldOn s (s 62) < s 3 then 1 else 0) else if w = 3 then sp_ruler s else if w = 4 then s 63 else if w = 5 then s 64 - 1 else if w = 6 then s 117 else if w = 7 then sp_coatsAt s 30 else -1, ?_, fun g m hb => ?_⟩
  · dsimp only
    rw [fn_X1_now]
    simp only [cx_rc, cg_taped, cg_fault, cg_befores, cg_laid, cg_turns, cg_wins, cg_gives, cg_surely, cg_never, cg_price, cg_tape, cg_capital, cg_now, cg_trial, cg_sentence, cg_before, cg_told, cg_kept, cp_taped, cp_fault, cp_befores, cp_laid, cp_turns, cp_wins, cp_gives, cp_surely, cp_never, cp_price, cp_capital, cp_sentence, cg_kc0, cg_ks0, cg_kr0, cl_kept0, cp_kc0, cp_ks0, cg_kc1, cg_ks1, cg_kr1, cl_kept1, cp_kc1, cp_ks1, cl_tape, cs_tape, cl_told, cs_told, cl_before, px_c1r, px_cI, px_cR, px_cV, px_ckz, px_ckz0, px_ckz1, cz_leti, cz_jn, n0_rc, n0_c, n0_day, n0_bares, n0_firstBare, n0_eaten, n0_queued, n0_at, n0l_at, n0_cloth, n0l_cloth, n0_user, n0l_user, n0_since, n0l_since, n0_queue, n0l_queue, n0_harm, n0l_harm, n0_ruled, n0l_ruled, n1_rc, n1_c, n1_day, n1_bares, n1_firstBare, n1_eaten, n1_queued, n1_at, n1l_at, n1_cloth, n1l_cloth, n1_user, n1l_user, n1_since, n1l_since, n1_queue, n1l_queue, n1_harm, n1l_harm, n1_ruled, n1l_ruled, n0_rulerT H, hc, pc_crc hcap, pc_cold ok hcap hd, pc_isSummer ok hcap hd, a1, a2, a3, a4, a5, px_e0, ite_not]
    repeat' split
    all_goals rfl
  · dsimp only
    rw [fn_X5_now]
    simp (disch := first | assumption | omega) only [qln, qsn, ql_0, ql_1, ql_2, ql_3, ql_4, ql_5, ql_6, ql_7, ql_62, qs_62, ql_63, qs_63, ql_64, qs_64, ql_117, qs_117, ql_118, qs_118, pl_h_0, ps_h_0, pl_h_1, ps_h_1, pl_h_2, ps_h_2, ps_h_4, ps_h_5, ps_h_6, pl_h_7, ps_h_7, ps_reserved_0, ps_reserved_1, ps_reserved_2, ps_reserved_3, ps_reserved_4, ps_reserved_5, ps_reserved_6, ps_reserved_7, ps_reserved_8, ps_reserved_9, ps_reserved_10, ps_reserved_11, ps_reserved_12, ps_reserved_13, ps_reserved_14, ps_reserved_15, ps_reserved_16, ps_reserved_17, ps_reserved_18, ps_reserved_19, ps_reserved_20, ps_reserved_21, ps_reserved_22, ps_reserved_23, pl_toldAt_0, ps_toldAt_0, pl_toldAt_1, ps_toldAt_1, ps_toldAt_2, ps_toldAt_3, pl_truths_0, px_c8, px_c10, px_c16, px_c20, px_c22, px_c30, px_c36, px_c38, px_c46, px_c54, px_c62, px_c65, px_c73, px_c81, px_c89, px_c97, px_c103, px_c109, px_c119, pr_tape, pln_tape, psn_tape, pr_s, pr_h, pln_h, psn_h, pr_read, pln_read, psn_read, pr_names, pln_names, psn_names, pr_reserved, pln_reserved, psn_reserved, pr_undone, pln_undone, psn_undone, pr_before, pln_before, psn_before, pr_sat, pln_sat, psn_sat, pr_toldAt, pln_toldAt, psn_toldAt, pr_stack, pln_stack, psn_stack, pr_truths, pln_truths, psn_truths, pr_kept, pln_kept, psn_kept, pr_namesKept, pln_namesKept, psn_namesKept, pr_areKept, pln_areKept, psn_areKept, px_c1r, px_rc, px_cI, px_cR, px_cV, px_ckz, px_ckz0, px_ckz1, px_getJ, px_putJ, cz_leti, cz_jn, pg_thrown, pp_thrown, pg_length, pp_length, pg_size, pp_size, pg_p, pp_p, pg_limit, pp_limit, pg_token, pp_token, pg_at, pp_at, pg_span, pp_span, pg_number, pp_number, pg_fault, pp_fault, pg_faultAt, pp_faultAt, pg_got, pp_got, pg_lines, pp_lines, pg_onces, pp_onces, pg_undoMany, pp_undoMany, pg_laidSet, pp_laidSet, pg_hasLaid, pp_hasLaid, pg_turnSet, pp_turnSet, pg_hasTurns, pp_hasTurns, pg_frostDay, pp_frostDay, pg_surelySet, pp_surelySet, pg_neverSet, pp_neverSet, pg_hasHooks, pp_hasHooks, pg_priceNow, pp_priceNow, pg_hasPrice, pp_hasPrice, pg_seed, pp_seed, pg_toldMany, pp_toldMany, pg_hasTold, pp_hasTold, pg_codes, pp_codes, pg_ones, pp_ones, pg_top, pp_top, pg_deep, pp_deep, pg_isWhole, pp_isWhole, px_SAne, px_SL, px_SI, px_SW, px_S1, px_S2, px_S4, px_S3, pm_coldOn ok, pm_isSummer ok, pm_ruler ok, pm_coatsAt ok, px_e0, ite_not]
    repeat' split
    all_goals rfl
theorem qa_count {w : Int32} (hc : X.2.1 0 = some c) (H : cx_st h x X 0 c s nm) (ht : X.1 1 = M.1 2) : qa h x X s M (fun r g => fn_X1_count r w g) (fun r g => fn_X5_count r w g) := by
  have ok := H.1.1.1.1
  have hcap := H.cap
  obtain ⟨V, ls, lm, lc, f0, f1, g0, g1, v1, v2, v3, v4, v5, v6, v7, v8, v9, v10, v11, v12, v13, v14, l1, l2, l3⟩ := hcap
  have com : fn_X1_count (some x) w (cx_set h x X) = some (.inl (some (cz_i (if w = 0 then s 0 else if w = 1 then s 1 else if w = 2 then s 2 else if w = 3 then s 3 else if w = 4 then s 4 else if w = 5 then s 5 else if w = 6 then s 6 else if w = 7 then M.1 2 else -1))), cx_set h x X) := by
    rw [fn_X1_count]
    simp only [cx_rc, cg_taped, cg_fault, cg_befores, cg_laid, cg_turns, cg_wins, cg_gives, cg_surely, cg_never, cg_price, cg_tape, cg_capital, cg_now, cg_trial, cg_sentence, cg_before, cg_told, cg_kept, cp_taped, cp_fault, cp_befores, cp_laid, cp_turns, cp_wins, cp_gives, cp_surely, cp_never, cp_price, cp_capital, cp_sentence, cg_kc0, cg_ks0, cg_kr0, cl_kept0, cp_kc0, cp_ks0, cg_kc1, cg_ks1, cg_kr1, cl_kept1, cp_kc1, cp_ks1, cl_tape, cs_tape, cl_told, cs_told, cl_before, px_c1r, px_cI, px_cR, px_cV, px_ckz, px_ckz0, px_ckz1, cz_leti, cz_jn, n0_rc, n0_c, n0_day, n0_bares, n0_firstBare, n0_eaten, n0_queued, n0_at, n0l_at, n0_cloth, n0l_cloth, n0_user, n0l_user, n0_since, n0l_since, n0_queue, n0l_queue, n0_harm, n0l_harm, n0_ruled, n0l_ruled, n1_rc, n1_c, n1_day, n1_bares, n1_firstBare, n1_eaten, n1_queued, n1_at, n1l_at, n1_cloth, n1l_cloth, n1_user, n1l_user, n1_since, n1l_since, n1_queue, n1l_queue, n1_harm, n1l_harm, n1_ruled, n1l_ruled, cm_seats hc H, cm_men hc H, cm_coats hc H, hc, ht]
    rw [pc_getI v1 v3 rfl, pc_getI v1 v4 rfl, pc_getI v1 v5 rfl, pc_getI v1 v6 rfl, ← ok.1.1, ← ok.2.1.1, ← ok.2.2.1.1]
    repeat' split
    all_goals rfl
  refine ⟨_, com, fun g m hb => ?_⟩
  dsimp only
  rw [fn_X5_count]
  simp (disch := first | assumption | omega) only [qln, qsn, ql_0, ql_1, ql_2, ql_3, ql_4, ql_5, ql_6, ql_7, ql_62, qs_62, ql_63, qs_63, ql_64, qs_64, ql_117, qs_117, ql_118, qs_118, pl_h_0, ps_h_0, pl_h_1, ps_h_1, pl_h_2, ps_h_2, ps_h_4, ps_h_5, ps_h_6, pl_h_7, ps_h_7, ps_reserved_0, ps_reserved_1, ps_reserved_2, ps_reserved_3, ps_reserved_4, ps_reserved_5, ps_reserved_6, ps_reserved_7, ps_reserved_8, ps_reserved_9, ps_reserved_10, ps_reserved_11, ps_reserved_12, ps_reserved_13, ps_reserved_14, ps_reserved_15, ps_reserved_16, ps_reserved_17, ps_reserved_18, ps_reserved_19, ps_reserved_20, ps_reserved_21, ps_reserved_22, ps_reserved_23, pl_toldAt_0, ps_toldAt_0, pl_toldAt_1, ps_toldAt_1, ps_toldAt_2, ps_toldAt_3, pl_truths_0, px_c8, px_c10, px_c16, px_c20, px_c22, px_c30, px_c36, px_c38, px_c46, px_c54, px_c62, px_c65, px_c73, px_c81, px_c89, px_c97, px_c103, px_c109, px_c119, pr_tape, pln_tape, psn_tape, pr_s, pr_h, pln_h, psn_h, pr_read, pln_read, psn_read, pr_names, pln_names, psn_names, pr_reserved, pln_reserved, psn_reserved, pr_undone, pln_undone, psn_undone, pr_before, pln_before, psn_before, pr_sat, pln_sat, psn_sat, pr_toldAt, pln_toldAt, psn_toldAt, pr_stack, pln_stack, psn_stack, pr_truths, pln_truths, psn_truths, pr_kept, pln_kept, psn_kept, pr_namesKept, pln_namesKept, psn_namesKept, pr_areKept, pln_areKept, psn_areKept, px_c1r, px_rc, px_cI, px_cR, px_cV, px_ckz, px_ckz0, px_ckz1, px_getJ, px_putJ, cz_leti, cz_jn, pg_thrown, pp_thrown, pg_length, pp_length, pg_size, pp_size, pg_p, pp_p, pg_limit, pp_limit, pg_token, pp_token, pg_at, pp_at, pg_span, pp_span, pg_number, pp_number, pg_fault, pp_fault, pg_faultAt, pp_faultAt, pg_got, pp_got, pg_lines, pp_lines, pg_onces, pp_onces, pg_undoMany, pp_undoMany, pg_laidSet, pp_laidSet, pg_hasLaid, pp_hasLaid, pg_turnSet, pp_turnSet, pg_hasTurns, pp_hasTurns, pg_frostDay, pp_frostDay, pg_surelySet, pp_surelySet, pg_neverSet, pp_neverSet, pg_hasHooks, pp_hasHooks, pg_priceNow, pp_priceNow, pg_hasPrice, pp_hasPrice, pg_seed, pp_seed, pg_toldMany, pp_toldMany, pg_hasTold, pp_hasTold, pg_codes, pp_codes, pg_ones, pp_ones, pg_top, pp_top, pg_deep, pp_deep, pg_isWhole, pp_isWhole, px_SAne, px_SL, px_SI, px_SW, px_S1, px_S2, px_S4, px_S3, pm_isIn, px_I1n, px_e0, ite_not]
  by_cases w7 : w = 7
  · subst w7
    rw [if_pos rfl]
    rfl
  · rw [if_neg w7, if_neg w7]
    by_cases hw : 0 ≤ w ∧ w ≤ 6
    · rw [if_pos hw]
      have hw2 := hw
      rw [show (6 : Int32) = Int32.ofNat 7 - 1 from rfl, px_range (by omega)] at hw2
      obtain ⟨k, hk, rfl⟩ := hw2
      rw [qln (by omega)]
      match k, hk with
      | 0, _ => rfl
      | 1, _ => rfl
      | 2, _ => rfl
      | 3, _ => rfl
      | 4, _ => rfl
      | 5, _ => rfl
      | 6, _ => rfl
      | k + 7, hk => exact absurd hk (by omega)
    · have ne : ∀ k : Nat, k < 7 → ¬ w = Int32.ofNat k := fun k hk e => hw (by rw [e, show (6 : Int32) = Int32.ofNat 7 - 1 from rfl, px_range (by omega)]; exact ⟨k, hk, rfl⟩)
      rw [if_neg hw, if_neg (show ¬ w = 0 from ne 0 (by omega)), if_neg (show ¬ w = 1 from ne 1 (by omega)), if_neg (show ¬ w = 2 from ne 2 (by omega)), if_neg (show ¬ w = 3 from ne 3 (by omega)), if_neg (show ¬ w = 4 from ne 4 (by omega)), if_neg (show ¬ w = 5 from ne 5 (by omega)), if_neg (show ¬ w = 6 from ne 6 (by omega))]
end CQC
