/-! THE PLAIN LAW, 52: acts, one by one -/
set_option maxRecDepth 100000
section ACB
variable {h g : cz_H} {x c m : Nat} {X : cx_X} {s : Nat → Int32} {nm : Nat → Int64} {M : px_M}
theorem oa_lay {y z : Int32} (hb : h.1.1 ≤ x) (hx : x + 126 ≤ h.2.1) (hf : h.2.2.2 h.2.1 = none) (h1 : h.2.1 + 1 ≤ h.1.2.1) (h2 : h.2.2.1 + 2 ≤ h.1.2.2.1) (hc : X.2.1 0 = some c) (H : cx_st h x X 0 c s nm) (U : ux x c X M s) : oa h x c X s nm M 2 (fun r g => fn_X1_lay r y z g) (fun r g => fn_X5_lay r y z g) := by
  have ok := H.1.1.1.1
  have g0 := ok.1.2
  have g8 := ok.2.2.1.2
  obtain ⟨u1, u2⟩ := U.kA
  by_cases t1 : ¬ (0 ≤ y ∧ y ≤ Int32.ofNat (sp_n s 2) - 1)
  · refine oa_no H U (-1) ?_ fun g m hb => ?_
    · try dsimp only
      rw [fn_X1_lay, cx_rc, cm_isCoat hc H, px_cI, if_neg t1, if_pos rfl]
    · try dsimp only
      rw [fn_X5_lay]
      simp (disch := first | assumption | omega) only [pp_thrown, px_SI, px_rc, pm_isCoat ok, px_cI]
      rw [if_neg t1, if_pos rfl]
  have t1 := Classical.not_not.mp t1
  by_cases t2 : ¬ (0 ≤ z ∧ z ≤ Int32.ofNat (sp_n s 0) - 1)
  · refine oa_no H U (-1) ?_ fun g m hb => ?_
    · try dsimp only
      rw [fn_X1_lay, cx_rc, cm_isCoat hc H, px_cI, if_pos t1, if_neg (by decide), cx_rc, cm_isSeat hc H, px_cI, if_neg t2, if_pos rfl]
    · try dsimp only
      rw [fn_X5_lay]
      simp (disch := first | assumption | omega) only [pp_thrown, px_SI, px_rc, pm_isCoat ok, pm_isSeat ok, px_cI]
      rw [if_pos t1, if_neg (by decide), if_neg t2, if_pos rfl]
  have t2 := Classical.not_not.mp t2
  have t1' := t1
  have t2' := t2
  rw [px_range (by omega)] at t1' t2'
  obtain ⟨k, hk, rfl⟩ := t1'
  obtain ⟨n, hn, rfl⟩ := t2'
  refine oa_act (w := 0) (k := k) (n := n) (ci := 12) (V := fun q => if q = 0 then cz_i (Int32.ofNat n) else if q = 1 then cz_i (Int32.ofNat k) else cz_df 12 q) hb hx hf H U (Or.inl ⟨rfl, hk, hn⟩) ⟨_, Or.inl ⟨rfl, if_pos rfl, rfl, rfl⟩⟩ ?_ fun g m hb => ?_
  · try dsimp only
    rw [fn_X1_lay, cx_rc, cm_isCoat hc H, px_cI, if_pos t1, if_neg (by decide), cx_rc, cm_isSeat hc H, px_cI, if_pos t2, if_neg (by decide), cm_mk (by omega) h1 h2, pc_nn, fn_X15_init, pc_nn, cm_X14_init hb (by omega) (Or.inl rfl), px_cV, px_cV, cx_rc]
  · have d0 : sp_does 0 k n s = (sp_whyLay s k (Int32.ofNat n), if sp_whyLay s k (Int32.ofNat n) = 0 then sp_lays s k (Int32.ofNat n) else s) := by unfold sp_does; rw [if_pos rfl]
    rw [d0]
    try dsimp only
    have ref : fn_X5_lay (some m) (Int32.ofNat k) (Int32.ofNat n) (px_set g m (px_S M s)) = (if sp_whyLay s k (Int32.ofNat n) ≤ 0 then some (.inl (some (cz_i 0)), px_set g m (px_S (px_I (sp_kA M s) 0 0) (sp_lays s k (Int32.ofNat n)))) else some (.inl (some (cz_i (sp_whyLay s k (Int32.ofNat n)))), px_set g m (px_S (px_I M 0 0) s))) := by
      rw [fn_X5_lay]
      simp (disch := first | assumption | omega) only [pp_thrown, px_SI, px_rc, pm_isCoat ok, pm_isSeat ok, px_cI]
      rw [if_pos t1, if_neg (by decide), if_pos t2, if_neg (by decide), pm_whyLay ok (by omega), px_cI, pm_keepsAll hb (show (px_I M 0 0).1 23 = Int32.ofNat (sp_u (px_I M 0 0)) from u1) (show sp_u (px_I M 0 0) ≤ 8 from u2), px_cV, px_rc, pm_lays hb (by omega), px_cV, sp_kA0]
      try simp only [px_rc]
    refine ⟨fun e => ?_, fun e => ?_⟩
    · rw [ref, e, if_pos (by decide), if_pos rfl]
    · obtain ⟨q1, q2, q3, -⟩ := sp_12 (sp_whyLay_is e)
      rw [ref, if_neg q1, q3]
theorem oa_wear {y z : Int32} (hb : h.1.1 ≤ x) (hx : x + 126 ≤ h.2.1) (hf : h.2.2.2 h.2.1 = none) (h1 : h.2.1 + 1 ≤ h.1.2.1) (h2 : h.2.2.1 + 2 ≤ h.1.2.2.1) (hc : X.2.1 0 = some c) (H : cx_st h x X 0 c s nm) (U : ux x c X M s) : oa h x c X s nm M 2 (fun r g => fn_X1_wear r y z g) (fun r g => fn_X5_wear r y z g) := by
  have ok := H.1.1.1.1
  have g6 := ok.2.1.2
  have g8 := ok.2.2.1.2
  obtain ⟨u1, u2⟩ := U.kA
  by_cases t1 : ¬ (0 ≤ y ∧ y ≤ Int32.ofNat (sp_n s 1) - 1)
  · refine oa_no H U (-1) ?_ fun g m hb => ?_
    · try dsimp only
      rw [fn_X1_wear, cx_rc, cm_isMan hc H, px_cI, if_neg t1, if_pos rfl]
    · try dsimp only
      rw [fn_X5_wear]
      simp (disch := first | assumption | omega) only [pp_thrown, px_SI, px_rc, pm_isMan ok, px_cI]
      rw [if_neg t1, if_pos rfl]
  have t1 := Classical.not_not.mp t1
  by_cases t2 : ¬ (0 ≤ z ∧ z ≤ Int32.ofNat (sp_n s 2) - 1)
  · refine oa_no H U (-1) ?_ fun g m hb => ?_
    · try dsimp only
      rw [fn_X1_wear, cx_rc, cm_isMan hc H, px_cI, if_pos t1, if_neg (by decide), cx_rc, cm_isCoat hc H, px_cI, if_neg t2, if_pos rfl]
    · try dsimp only
      rw [fn_X5_wear]
      simp (disch := first | assumption | omega) only [pp_thrown, px_SI, px_rc, pm_isCoat ok, pm_isMan ok, px_cI]
      rw [if_pos t1, if_neg (by decide), if_neg t2, if_pos rfl]
  have t2 := Classical.not_not.mp t2
  have t1' := t1
  have t2' := t2
  rw [px_range (by omega)] at t1' t2'
  obtain ⟨k, hk, rfl⟩ := t1'
  obtain ⟨n, hn, rfl⟩ := t2'
  refine oa_act (w := 1) (k := k) (n := n) (ci := 13) (V := fun q => if q = 0 then cz_i (Int32.ofNat k) else if q = 1 then cz_i (Int32.ofNat n) else cz_df 13 q) hb hx hf H U (Or.inr (Or.inl ⟨rfl, hk, hn⟩)) ⟨_, Or.inr (Or.inl ⟨rfl, if_pos rfl, rfl, rfl⟩)⟩ ?_ fun g m hb => ?_
  · try dsimp only
    rw [fn_X1_wear, cx_rc, cm_isMan hc H, px_cI, if_pos t1, if_neg (by decide), cx_rc, cm_isCoat hc H, px_cI, if_pos t2, if_neg (by decide), cm_mk (by omega) h1 h2, pc_nn, fn_X18_init, pc_nn, cm_X14_init hb (by omega) (Or.inr (Or.inl rfl)), px_cV, px_cV, cx_rc]
  · have d0 : sp_does 1 k n s = if sp_whyWear s (Int32.ofNat k) n = 0 then (0, sp_wears s (Int32.ofNat k) n) else (10 + sp_whyWear s (Int32.ofNat k) n, s) := by unfold sp_does; rw [if_neg (by decide), if_pos rfl]
    obtain ⟨-, Q, hQ⟩ := H.1.1.1
    have hl := hQ.len ok
    have ref : fn_X5_wear (some m) (Int32.ofNat k) (Int32.ofNat n) (px_set g m (px_S M s)) = (if sp_whyWear s (Int32.ofNat k) n ≤ 0 then some (.inl (some (cz_i 0)), px_set g m (px_S (px_I (sp_kA M s) 0 0) (sp_wears s (Int32.ofNat k) n))) else some (.inl (some (cz_i (sp_whyWear s (Int32.ofNat k) n))), px_set g m (px_S (px_I M 0 0) s))) := by
      rw [fn_X5_wear]
      simp (disch := first | assumption | omega) only [pp_thrown, px_SI, px_rc, pm_isCoat ok, pm_isMan ok, px_cI]
      rw [if_pos t1, if_neg (by decide), if_pos t2, if_neg (by decide), pm_whyWear (by omega), px_cI, pm_keepsAll hb (show (px_I M 0 0).1 23 = Int32.ofNat (sp_u (px_I M 0 0)) from u1) (show sp_u (px_I M 0 0) ≤ 8 from u2), px_cV, px_rc, pm_wears hb (by omega) hQ.2.2.1 hl, px_cV, sp_kA0]
      try simp only [px_rc]
    rw [d0]
    by_cases e : sp_whyWear s (Int32.ofNat k) n = 0
    · rw [if_pos e]
      refine ⟨fun _ => ?_, fun q => absurd rfl q⟩
      try dsimp only
      rw [ref, e, if_pos (by decide)]
    · obtain ⟨q1, -, -, q4, -, q6, -⟩ := sp_12 (sp_whyWear_is e)
      rw [if_neg e]
      refine ⟨fun q => absurd q q6, fun _ => ?_⟩
      try dsimp only
      rw [ref, if_neg q1, q4]
theorem oa_lend {y z : Int32} (hb : h.1.1 ≤ x) (hx : x + 126 ≤ h.2.1) (hf : h.2.2.2 h.2.1 = none) (h1 : h.2.1 + 1 ≤ h.1.2.1) (h2 : h.2.2.1 + 2 ≤ h.1.2.2.1) (hc : X.2.1 0 = some c) (H : cx_st h x X 0 c s nm) (U : ux x c X M s) : oa h x c X s nm M 2 (fun r g => fn_X1_lend r y z g) (fun r g => fn_X5_lend r y z g) := by
  have ok := H.1.1.1.1
  have g6 := ok.2.1.2
  have g8 := ok.2.2.1.2
  obtain ⟨u1, u2⟩ := U.kA
  by_cases t1 : ¬ (0 ≤ y ∧ y ≤ Int32.ofNat (sp_n s 2) - 1)
  · refine oa_no H U (-1) ?_ fun g m hb => ?_
    · try dsimp only
      rw [fn_X1_lend, cx_rc, cm_isCoat hc H, px_cI, if_neg t1, if_pos rfl]
    · try dsimp only
      rw [fn_X5_lend]
      simp (disch := first | assumption | omega) only [pp_thrown, px_SI, px_rc, pm_isCoat ok, px_cI]
      rw [if_neg t1, if_pos rfl]
  have t1 := Classical.not_not.mp t1
  by_cases t2 : ¬ (0 ≤ z ∧ z ≤ Int32.ofNat (sp_n s 1) - 1)
  · refine oa_no H U (-1) ?_ fun g m hb => ?_
    · try dsimp only
      rw [fn_X1_lend, cx_rc, cm_isCoat hc H, px_cI, if_pos t1, if_neg (by decide), cx_rc, cm_isMan hc H, px_cI, if_neg t2, if_pos rfl]
    · try dsimp only
      rw [fn_X5_lend]
      simp (disch := first | assumption | omega) only [pp_thrown, px_SI, px_rc, pm_isCoat ok, pm_isMan ok, px_cI]
      rw [if_pos t1, if_neg (by decide), if_neg t2, if_pos rfl]
  have t2 := Classical.not_not.mp t2
  have t1' := t1
  have t2' := t2
  rw [px_range (by omega)] at t1' t2'
  obtain ⟨k, hk, rfl⟩ := t1'
  obtain ⟨n, hn, rfl⟩ := t2'
  refine oa_act (w := 2) (k := k) (n := n) (ci := 14) (V := fun q => if q = 0 then cz_i (Int32.ofNat n) else if q = 1 then cz_i (Int32.ofNat k) else cz_df 14 q) hb hx hf H U (Or.inr (Or.inr (Or.inl ⟨rfl, hk, hn⟩))) ⟨_, Or.inr (Or.inr (Or.inl ⟨rfl, if_pos rfl, rfl, rfl⟩))⟩ ?_ fun g m hb => ?_
  · try dsimp only
    rw [fn_X1_lend, cx_rc, cm_isCoat hc H, px_cI, if_pos t1, if_neg (by decide), cx_rc, cm_isMan hc H, px_cI, if_pos t2, if_neg (by decide), cm_mk (by omega) h1 h2, pc_nn, fn_X16_init, pc_nn, cm_X14_init hb (by omega) (Or.inr (Or.inr rfl)), px_cV, px_cV, cx_rc]
  · have d0 : sp_does 2 k n s = if sp_whyLend s k (Int32.ofNat n) = 0 then (0, upd s (73 + k) (Int32.ofNat n)) else (20 + sp_whyLend s k (Int32.ofNat n), s) := by unfold sp_does; rw [if_neg (by decide), if_neg (by decide), if_pos rfl]
    have ref : fn_X5_lend (some m) (Int32.ofNat k) (Int32.ofNat n) (px_set g m (px_S M s)) = (if sp_whyLend s k (Int32.ofNat n) ≤ 0 then some (.inl (some (cz_i 0)), px_set g m (px_S (px_I (sp_kA M s) 0 0) (upd s (73 + k) (Int32.ofNat n)))) else some (.inl (some (cz_i (sp_whyLend s k (Int32.ofNat n)))), px_set g m (px_S (px_I M 0 0) s))) := by
      rw [fn_X5_lend]
      simp (disch := first | assumption | omega) only [pp_thrown, px_SI, px_rc, pm_isCoat ok, pm_isMan ok, px_cI]
      rw [if_pos t1, if_neg (by decide), if_pos t2, if_neg (by decide), pm_whyLend (by omega), px_cI, pm_keepsAll hb (show (px_I M 0 0).1 23 = Int32.ofNat (sp_u (px_I M 0 0)) from u1) (show sp_u (px_I M 0 0) ≤ 8 from u2), px_cV, sp_kA0]
      simp (disch := first | assumption | omega) only [qln, qsn, ql_0, ql_1, ql_2, ql_3, ql_4, ql_5, ql_6, ql_7, ql_62, qs_62, ql_63, qs_63, ql_64, qs_64, ql_117, qs_117, ql_118, qs_118, pl_h_0, ps_h_0, pl_h_1, ps_h_1, pl_h_2, ps_h_2, ps_h_4, ps_h_5, ps_h_6, pl_h_7, ps_h_7, ps_reserved_0, ps_reserved_1, ps_reserved_2, ps_reserved_3, ps_reserved_4, ps_reserved_5, ps_reserved_6, ps_reserved_7, ps_reserved_8, ps_reserved_9, ps_reserved_10, ps_reserved_11, ps_reserved_12, ps_reserved_13, ps_reserved_14, ps_reserved_15, ps_reserved_16, ps_reserved_17, ps_reserved_18, ps_reserved_19, ps_reserved_20, ps_reserved_21, ps_reserved_22, ps_reserved_23, pl_toldAt_0, ps_toldAt_0, pl_toldAt_1, ps_toldAt_1, ps_toldAt_2, ps_toldAt_3, pl_truths_0, px_c8, px_c10, px_c16, px_c20, px_c22, px_c30, px_c36, px_c38, px_c46, px_c54, px_c62, px_c65, px_c73, px_c81, px_c89, px_c97, px_c103, px_c109, px_c119, pr_tape, pln_tape, psn_tape, pr_s, pr_h, pln_h, psn_h, pr_read, pln_read, psn_read, pr_names, pln_names, psn_names, pr_reserved, pln_reserved, psn_reserved, pr_undone, pln_undone, psn_undone, pr_before, pln_before, psn_before, pr_sat, pln_sat, psn_sat, pr_toldAt, pln_toldAt, psn_toldAt, pr_stack, pln_stack, psn_stack, pr_truths, pln_truths, psn_truths, pr_kept, pln_kept, psn_kept, pr_namesKept, pln_namesKept, psn_namesKept, pr_areKept, pln_areKept, psn_areKept, px_c1r, px_rc, px_cI, px_cR, px_cV, px_ckz, px_ckz0, px_ckz1, px_getJ, px_putJ, cz_leti, cz_jn, pg_thrown, pp_thrown, pg_length, pp_length, pg_size, pp_size, pg_p, pp_p, pg_limit, pp_limit, pg_token, pp_token, pg_at, pp_at, pg_span, pp_span, pg_number, pp_number, pg_fault, pp_fault, pg_faultAt, pp_faultAt, pg_got, pp_got, pg_lines, pp_lines, pg_onces, pp_onces, pg_undoMany, pp_undoMany, pg_laidSet, pp_laidSet, pg_hasLaid, pp_hasLaid, pg_turnSet, pp_turnSet, pg_hasTurns, pp_hasTurns, pg_frostDay, pp_frostDay, pg_surelySet, pp_surelySet, pg_neverSet, pp_neverSet, pg_hasHooks, pp_hasHooks, pg_priceNow, pp_priceNow, pg_hasPrice, pp_hasPrice, pg_seed, pp_seed, pg_toldMany, pp_toldMany, pg_hasTold, pp_hasTold, pg_codes, pp_codes, pg_ones, pp_ones, pg_top, pp_top, pg_deep, pp_deep, pg_isWhole, pp_isWhole, px_SAne, px_SL, px_SI, px_SW, px_S1, px_S2, px_S4, px_S3]
    rw [d0]
    by_cases e : sp_whyLend s k (Int32.ofNat n) = 0
    · rw [if_pos e]
      refine ⟨fun _ => ?_, fun q => absurd rfl q⟩
      try dsimp only
      rw [ref, e, if_pos (by decide)]
    · obtain ⟨q1, -, -, -, q5, -, q7⟩ := sp_12 (sp_whyLend_is e)
      rw [if_neg e]
      refine ⟨fun q => absurd q q7, fun _ => ?_⟩
      try dsimp only
      rw [ref, if_neg q1, q5]
theorem oa_keep {y : Int32} (hb : h.1.1 ≤ x) (hx : x + 126 ≤ h.2.1) (hf : h.2.2.2 h.2.1 = none) (h1 : h.2.1 + 1 ≤ h.1.2.1) (h2 : h.2.2.1 + 1 ≤ h.1.2.2.1) (hc : X.2.1 0 = some c) (H : cx_st h x X 0 c s nm) (U : ux x c X M s) : oa h x c X s nm M 1 (fun r g => fn_X1_keep r y g) (fun r g => fn_X5_keep r y g) := by
  have ok := H.1.1.1.1
  have g8 := ok.2.2.1.2
  obtain ⟨u1, u2⟩ := U.kA
  by_cases t1 : ¬ (0 ≤ y ∧ y ≤ Int32.ofNat (sp_n s 2) - 1)
  · refine oa_no H U (-1) ?_ fun g m hb => ?_
    · try dsimp only
      rw [fn_X1_keep, cx_rc, cm_isCoat hc H, px_cI, if_neg t1, if_pos rfl]
    · try dsimp only
      rw [fn_X5_keep]
      simp (disch := first | assumption | omega) only [pp_thrown, px_SI, px_rc, pm_isCoat ok, px_cI]
      rw [if_neg t1, if_pos rfl]
  have t1 := Classical.not_not.mp t1
  have t1' := t1
  rw [px_range (by omega)] at t1'
  obtain ⟨k, hk, rfl⟩ := t1'
  refine oa_act (w := 3) (k := k) (n := 0) (ci := 15) (V := fun q => if q = 0 then cz_i (Int32.ofNat k) else cz_df 15 q) hb hx hf H U (Or.inr (Or.inr (Or.inr (Or.inl ⟨rfl, hk⟩)))) ⟨_, Or.inr (Or.inr (Or.inr (Or.inl ⟨rfl, if_pos rfl, rfl⟩)))⟩ ?_ fun g m hb => ?_
  · try dsimp only
    rw [fn_X1_keep, cx_rc, cm_isCoat hc H, px_cI, if_pos t1, if_neg (by decide), cm_mk (by omega) h1 h2, pc_nn, fn_X17_init, pc_nn, fn_X13_init, pc_nn, fn_X12_init, pc_nn, px_cV, cm_putn hb (by omega) (show cz_lk [(12, 1), (13, 1), (14, 1), (15, 0)] 15 = some 0 from rfl), px_cV, px_cV, cx_rc]
  · have d0 : sp_does 3 k 0 s = if s (65 + k) < 10 then (0, sp_keeps s k) else (31, s) := by unfold sp_does; rw [if_neg (by decide), if_neg (by decide), if_neg (by decide), if_pos rfl]
    obtain ⟨-, Q, hQ⟩ := H.1.1.1
    rw [d0]
    by_cases e : s (65 + k) < 10
    · rw [if_pos e]
      refine ⟨fun _ => ?_, fun q => absurd rfl q⟩
      try dsimp only
      rw [fn_X5_keep]
      simp (disch := first | assumption | omega) only [pp_thrown, px_SI, px_rc, pm_isCoat ok, px_cI]
      rw [if_pos t1, if_neg (by decide), pm_isWorn (by omega), px_cI, if_pos e, if_neg (by decide), pm_keepsAll hb (show (px_I M 0 0).1 23 = Int32.ofNat (sp_u (px_I M 0 0)) from u1) (show sp_u (px_I M 0 0) ≤ 8 from u2), px_cV, px_rc, pm_keeps hb (by omega) hQ.2.2.1 (hQ.len7 ok hk (sp_lt10 e).1), px_cV, sp_kA0]
      try simp only [px_rc]
    · rw [if_neg e]
      refine ⟨fun q => absurd (show (31 : Int32) = 0 from q) (by decide), fun _ => ?_⟩
      try dsimp only
      rw [fn_X5_keep]
      simp (disch := first | assumption | omega) only [pp_thrown, px_SI, px_rc, pm_isCoat ok, px_cI]
      rw [if_pos t1, if_neg (by decide), pm_isWorn (by omega), px_cI, if_neg e, if_pos rfl]
      rfl
theorem oa_days {n : Int32} (hb : h.1.1 ≤ x) (H : cx_st h x X 0 c s nm) (U : ux x c X M s) : oa h x c X s nm M 0 (fun r g => fn_X1_days r n g) (fun r g => fn_X5_days r n g) := by
  obtain ⟨u1, u2⟩ := U.kA
  by_cases t1 : ¬ (1 ≤ n ∧ n ≤ 60)
  · refine oa_no H U (-1) ?_ fun g m hb => ?_
    · try dsimp only
      rw [fn_X1_days, pc_isIn, px_cI, if_neg t1, if_pos rfl]
    · try dsimp only
      rw [fn_X5_days]
      simp (disch := first | assumption | omega) only [pp_thrown, px_SI, pm_isIn, px_cI]
      rw [if_neg t1, if_pos rfl]
  have t1 := Classical.not_not.mp t1
  have t1' := t1
  obtain ⟨N, -, hN, rfl⟩ := px_60 t1'
  by_cases e : s 62 = 400
  · refine oa_no H U 0 ?_ fun g m hb => ?_
    · try dsimp only
      rw [fn_X1_days, pc_isIn, px_cI, if_pos t1, if_neg (by decide), cg_now, n0_rc, n0_isOver H, px_cI, if_pos e, if_neg (by decide)]
    · try dsimp only
      rw [fn_X5_days]
      simp (disch := first | assumption | omega) only [pp_thrown, px_SI, pm_isIn, px_cI]
      rw [if_pos t1, if_neg (by decide), pr_s, ql_62, if_pos e]
  obtain ⟨Y, y1, y2, y3, y4, y5, y6⟩ := cm_snap hb H U
  have H2 : cx_st h x Y 0 c s nm := ⟨H.1, by rw [y6 0 (by omega)]; exact H.2.1, H.2.2.1, by rw [y6 0 (by omega)]; exact H.2.2.2⟩
  obtain ⟨R, r1, r2⟩ := n0_passAll (N := N) hb (by omega) H2
  have md := sp_goes_mid N 0 s H.1
  have C1 : cx_ac X Y := ⟨fun j h1 _ _ => y3 j h1, y4, y5, fun i hi => y6 i (by omega)⟩
  refine ⟨Int32.ofNat (sp_goes N 0 s).1, h, cx_G Y 0 R, px_I (sp_kA M s) 0 0, (sp_goes N 0 s).2, ?_, hg.rf, Nat.le_succ _, Nat.le_refl _, C1.tr (cx_ac.G (by omega)), px_ac.kA.tr (px_eq.I (by decide)).ac, md, r2, ((y2.mid md).now (by omega)).eq cx_eq.rf (px_eq.I (by decide)), fun g m hb => ?_⟩
  · try dsimp only
    rw [fn_X1_days, pc_isIn, px_cI, if_pos t1, if_neg (by decide), cg_now, n0_rc, n0_isOver H, px_cI, if_neg e, if_pos rfl, cx_rc, y1, px_cV, cg_now, n0_rc, r1, px_cI]
  · try dsimp only
    rw [fn_X5_days]
    simp (disch := first | assumption | omega) only [pp_thrown, px_SI, pm_isIn, px_cI]
    rw [if_pos t1, if_neg (by decide), pr_s, ql_62, if_neg e, px_rc, pm_keepsAll hb (show (px_I M 0 0).1 23 = Int32.ofNat (sp_u (px_I M 0 0)) from u1) (show sp_u (px_I M 0 0) ≤ 8 from u2), px_cV, px_rc, pm_goesOn hb (by omega) H.1.1.1, px_cI, sp_kA0]
theorem px_eqkA {v : Int32} (U : ux x c X (sp_kA M s) s) : ux x c X (px_I (px_I (sp_kA M s) 0 0) 35 v) s := U.eq cx_eq.rf ((px_eq.I (by decide)).tr (px_eq.I (by decide)))
theorem oa_drawn {n z : Int32} (hb : h.1.1 ≤ x) (hc : X.2.1 0 = some c) (H : cx_st h x X 0 c s nm) (U : ux x c X M s) : oa h x c X s nm M 0 (fun r g => fn_X1_drawn r n z g) (fun r g => fn_X5_drawn r n z g) := by
  have ok := H.1.1.1.1
  obtain ⟨u1, u2⟩ := U.kA
  by_cases t1 : ¬ (1 ≤ n ∧ n ≤ 60)
  · refine oa_no H U (-1) ?_ fun g m hb => ?_
    · try dsimp only
      rw [fn_X1_drawn, pc_isIn, px_cI, if_neg t1, if_pos rfl]
    · try dsimp only
      rw [fn_X5_drawn]
      simp (disch := first | assumption | omega) only [pp_thrown, px_SI, pm_isIn, px_cI]
      rw [if_neg t1, if_pos rfl]
  have t1 := Classical.not_not.mp t1
  have t1' := t1
  obtain ⟨N, -, hN, rfl⟩ := px_60 t1'
  have q2 : (Int32.ofNat (sp_n s 2) = 0) = (s 2 = 0) := by rw [← ok.2.2.1.1]
  by_cases t3 : s 2 = 0
  · refine oa_no H U (-1) ?_ fun g m hb => ?_
    · try dsimp only
      rw [fn_X1_drawn, pc_isIn, px_cI, if_pos t1, if_neg (by decide), cx_rc, cm_coats hc H, px_cI, if_pos (by rw [q2]; exact t3)]
    · try dsimp only
      rw [fn_X5_drawn]
      simp (disch := first | assumption | omega) only [pp_thrown, px_SI, pm_isIn, px_cI]
      rw [if_pos t1, if_neg (by decide), pr_s, ql_2, if_pos t3]
  by_cases e : s 62 = 400
  · have d0 : ∀ n, sp_dr n 0 (z, s) = (0, z, s) := fun n => by
      cases n with
      | zero => rfl
      | succ n =>
        rw [sp_dr, if_pos (by rw [sp_day400 H.1.2.1]; exact e)]
    refine ⟨0, h, X, px_I (px_I M 0 0) 35 z, s, ?_, hg.rf, Nat.le_succ _, Nat.le_refl _, cx_ac.rf, ((px_eq.I (by decide)).tr (px_eq.I (by decide))).ac, sp_mid.rf, H, U.eq cx_eq.rf ((px_eq.I (by decide)).tr (px_eq.I (by decide))), fun g m hb => ?_⟩
    · try dsimp only
      rw [fn_X1_drawn, pc_isIn, px_cI, if_pos t1, if_neg (by decide), cx_rc, cm_coats hc H, px_cI, if_neg (by rw [q2]; exact t3), cg_now, n0_rc, n0_isOver H, px_cI, if_pos e, if_neg (by decide)]
    · try dsimp only
      rw [fn_X5_drawn]
      simp (disch := first | assumption | omega) only [pp_thrown, px_SI, pm_isIn, px_cI]
      rw [if_pos t1, if_neg (by decide), pr_s, ql_2, if_neg t3, pr_s, ql_62, if_pos (by rw [sp_day400 H.1.2.1]; exact e), px_rc, pm_draws hb (by omega) H.1, px_cI, d0]
      rfl
  obtain ⟨Y, y1, y2, y3, y4, y5, y6⟩ := cm_snap hb H U
  have H2 : cx_st h x Y 0 c s nm := ⟨H.1, by rw [y6 0 (by omega)]; exact H.2.1, H.2.2.1, by rw [y6 0 (by omega)]; exact H.2.2.2⟩
  obtain ⟨R, r1, r2⟩ := n0_drawn (N := N) (y := z) hb (by omega) H2
  have md := sp_dr_mid N 0 (z, s) H.1
  have C1 : cx_ac X Y := ⟨fun j h1 _ _ => y3 j h1, y4, y5, fun i hi => y6 i (by omega)⟩
  refine ⟨Int32.ofNat (sp_dr N 0 (z, s)).1, h, cx_G Y 0 R, px_I (px_I (sp_kA M s) 0 0) 35 (sp_dr N 0 (z, s)).2.1, (sp_dr N 0 (z, s)).2.2, ?_, hg.rf, Nat.le_succ _, Nat.le_refl _, C1.tr (cx_ac.G (by omega)), px_ac.kA.tr ((px_eq.I (by decide)).tr (px_eq.I (by decide))).ac, md, r2, ((px_eqkA y2).mid md).now (by omega), fun g m hb => ?_⟩
  · try dsimp only
    rw [fn_X1_drawn, pc_isIn, px_cI, if_pos t1, if_neg (by decide), cx_rc, cm_coats hc H, px_cI, if_neg (by rw [q2]; exact t3), cg_now, n0_rc, n0_isOver H, px_cI, if_neg e, if_pos rfl, cx_rc, y1, px_cV, cg_now, n0_rc, r1, px_cI]
  · try dsimp only
    rw [fn_X5_drawn]
    simp (disch := first | assumption | omega) only [pp_thrown, px_SI, pm_isIn, px_cI]
    rw [if_pos t1, if_neg (by decide), pr_s, ql_2, if_neg t3, pr_s, ql_62, if_neg (by rw [sp_day400 H.1.2.1]; exact e), px_rc, pm_keepsAll hb (show (px_I M 0 0).1 23 = Int32.ofNat (sp_u (px_I M 0 0)) from u1) (show sp_u (px_I M 0 0) ≤ 8 from u2), px_cV, px_rc, pm_draws hb (by omega) H.1, px_cI, sp_kA0]
theorem sp_un_cp2 {g : Nat → Int32} {i : Nat} : sp_cp g (56 * i) 62 56 0 s = sp_un s g i := by
  funext q
  rw [sp_cp_at]
  unfold sp_un
  by_cases e : 62 ≤ q ∧ q < 118
  · rw [if_pos (show 62 + 0 ≤ q ∧ q < 62 + 0 + 56 by omega)]
  · rw [if_neg (show ¬ (62 + 0 ≤ q ∧ q < 62 + 0 + 56) by omega)]
theorem sp_un_is_mid {g : Nat → Int32} {i : Nat} : sp_mid s (sp_un s g i) := by
  intro q hq
  unfold sp_un
  rw [if_neg (by omega)]
theorem px_IIc {v w : Int32} : px_ac M (px_I (px_I M 0 v) 23 w) := by
  refine ⟨fun j hj => ?_, fun _ _ => rfl, fun _ _ => rfl, rfl, rfl⟩
  rw [px_I1n (by intro e; subst e; simp at hj), px_I1n (by intro e; subst e; simp at hj)]
theorem oa_undo (hb : h.1.1 ≤ x) (H : cx_st h x X 0 c s nm) (U : ux x c X M s) : oa h x c X s nm M 0 (fun r g => fn_X1_undo r g) (fun r g => fn_X5_undo r g) := by
  obtain ⟨u1, u2⟩ := U.kA
  have U0 := U
  obtain ⟨u, p, a1, a2, a3, a4, a5, a6, a7⟩ := U
  have hu : sp_u M = u := by unfold sp_u; rw [a3, Int32.toNatClampNeg_ofNat_of_lt (show u < 2 ^ 31 by omega)]
  by_cases e : u = 0
  · refine oa_no H U0 (-1) ?_ fun g m hb => ?_
    · try dsimp only
      rw [fn_X1_undo, cg_befores, a2, e]
      rfl
    · try dsimp only
      rw [pm_undo hb u1 u2, hu, if_pos e]
  · have hp := a4 (u - 1) (by omega)
    obtain ⟨f1, f2, f3⟩ := a7 (u - 1) (by omega)
    have as0 := cx_as (h := h) (x := x) (X := cx_I X 8 (Int32.ofNat (u - 1))) (i := 0) (j := 4 + p (u - 1)) hb (by omega) (by omega) (by omega)
    have as0 : fn_X3_as (some (x + 8)) (some (x + cx_o (4 + p (u - 1)))) (cx_set h x (cx_I X 8 (Int32.ofNat (u - 1)))) = _ := as0
    have md : sp_mid s (sp_un s (M.2.2.1 21) (u - 1)) := sp_un_is_mid
    have st : cx_st h x (cx_I X 8 (Int32.ofNat (u - 1))) (4 + p (u - 1)) c (sp_un s (M.2.2.1 21) (u - 1)) nm := ⟨f1, f2, H.2.2.1.same H.1.1.1.1 md.same, f3⟩
    refine ⟨Int32.ofNat (u - 1), h, _, px_I (px_I M 0 0) 23 (Int32.ofNat (u - 1)), sp_un s (M.2.2.1 21) (u - 1), ?_, hg.rf, Nat.le_succ _, Nat.le_refl _, (show cx_ac X (cx_I X 8 (Int32.ofNat (u - 1))) from ⟨fun j h1 _ _ => cx_In h1, rfl, rfl, fun _ _ => rfl⟩).tr (cx_ac.G (by omega)), px_IIc, md, st.as, ?_, fun g m hb => ?_⟩
    · try dsimp only
      have ne : ¬ X.1 8 = 0 := by rw [a2, show (0 : Int32) = Int32.ofNat 0 from rfl, px_inj (by omega) (by omega)]; exact e
      rw [fn_X1_undo, cg_befores, if_neg ne, cg_befores, cp_befores hb, a2, px_sub1 (by omega), cg_now, cg_before, cg_befores, cx_Ie, cl_before (by omega)]
      have eb : (cx_I X 8 (Int32.ofNat (u - 1))).2.2.2.1 (u - 1) = some (x + cx_o (4 + p (u - 1))) := a6 (u - 1) (by omega)
      rw [eb, n0_rc, as0, px_cR, cg_befores, cx_G1, cx_Ie]
    · refine ⟨u - 1, p, by omega, by rw [cx_G1, cx_Ie], px_I1, a4, a5, a6, fun i hi => ?_⟩
      rw [cx_Gn (by omega), sp_un_mid md]
      exact a7 i (by omega)
    · try dsimp only
      rw [pm_undo hb u1 u2, hu, if_neg e, sp_un_cp2]
end ACB
