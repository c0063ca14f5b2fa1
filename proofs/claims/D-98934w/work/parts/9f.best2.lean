/-! THE PLAIN LAW, 45: the best of a day, on -/
set_option maxRecDepth 100000
noncomputable def sp_bs1 (s : Nat → Int32) (y : Nat) (hh w v : Int32) (k : Nat) (a : Int32 × Int32) : Int32 × Int32 :=
  if (Int32.ofNat k &&& (v ^^^ (-1))) = 0 then (if sp_H s y (s 62) (w &&& (Int32.ofNat k ^^^ (-1))) ≤ hh then (if a.1 < sp_wo s (sp_pop k) 0 0 then (sp_wo s (sp_pop k) 0 0, Int32.ofNat k) else a) else a) else a
/-- the coats of others are taken off -/
def sp_off (s : Nat → Int32) (y : Int32) : Nat → Nat → Int32 → Int32 := sp_fold (fun c a => if s (22 + c) = y then a else a &&& (((1 : Int32) <<< (Int32.ofNat c &&& 31)) ^^^ (-1)))
theorem sp_off_bit {s : Nat → Int32} {y : Int32} {j : Nat} (hj : j < 32) : ∀ (n k : Nat) (a : Int32), k + n ≤ 32 → (sp_off s y n k a).toBitVec.getLsbD j = (a.toBitVec.getLsbD j && !decide (k ≤ j ∧ j < k + n ∧ ¬ s (22 + j) = y)) := by
  intro n
  induction n with
  | zero =>
    intro k a _
    have : ¬ (k ≤ j ∧ j < k + 0 ∧ ¬ s (22 + j) = y) := fun q => by omega
    rw [decide_eq_false this]
    simp [sp_off, sp_fold]
  | succ n ih =>
    intro k a hn
    have e : sp_off s y (n + 1) k a = sp_off s y n (k + 1) (if s (22 + k) = y then a else a &&& (((1 : Int32) <<< (Int32.ofNat k &&& 31)) ^^^ (-1))) := rfl
    rw [e, ih (k + 1) _ (by omega)]
    by_cases ej : j = k
    · subst ej
      have e1 : ¬ (j + 1 ≤ j ∧ j < j + 1 + n ∧ ¬ s (22 + j) = y) := fun q => by omega
      rw [decide_eq_false e1]
      by_cases p : s (22 + j) = y
      · rw [if_pos p, decide_eq_false (fun q => q.2.2 p)]
      · rw [if_neg p, decide_eq_true (show j ≤ j ∧ j < j + (n + 1) ∧ ¬ s (22 + j) = y from ⟨Nat.le_refl _, by omega, p⟩), Int32.toBitVec_and, BitVec.getLsbD_and, px_not_bit hj, px_one (by omega) hj]
        simp
    · have e1 : (k + 1 ≤ j ∧ j < k + 1 + n ∧ ¬ s (22 + j) = y) = (k ≤ j ∧ j < k + (n + 1) ∧ ¬ s (22 + j) = y) := propext ⟨fun q => ⟨by omega, by omega, q.2.2⟩, fun q => ⟨by omega, by omega, q.2.2⟩⟩
      have e2 : (if s (22 + k) = y then a else a &&& (((1 : Int32) <<< (Int32.ofNat k &&& 31)) ^^^ (-1))).toBitVec.getLsbD j = a.toBitVec.getLsbD j := by
        split
        · rfl
        · rw [Int32.toBitVec_and, BitVec.getLsbD_and, px_not_bit hj, px_one (by omega) hj]
          simp [ej]
      simp only [e1, e2]
theorem sp_off_eq {s : Nat → Int32} {y : Int32} (h8 : sp_n s 2 ≤ 8) : sp_off s y (sp_n s 2) 0 (sp_coatsAt s y) = sp_coatsAt s y &&& sp_coatsOf s y := by
  apply px_set_ext
  intro j hj
  rw [sp_off_bit hj _ _ _ (by omega), Int32.toBitVec_and, BitVec.getLsbD_and, sp_coatsAt_bit h8 hj, sp_coatsOf_bit h8 hj]
  by_cases a : j < sp_n s 2 <;> by_cases b : s (65 + j) = y <;> by_cases d : s (22 + j) = y <;> simp [a, b, d]
theorem sp_mine_256 {s : Nat → Int32} {y : Int32} (h8 : sp_n s 2 ≤ 8) : ∃ v, v < 256 ∧ sp_coatsAt s y &&& sp_coatsOf s y = Int32.ofNat v := by
  obtain ⟨v, h1, h2, -⟩ := px_256 (a := sp_coatsAt s y &&& sp_coatsOf s y) (fun j h8' hj => by
    rw [Int32.toBitVec_and, BitVec.getLsbD_and, sp_coatsAt_bit h8 hj, decide_eq_false (fun q => by omega)]
    rfl)
  exact ⟨v, h1, h2⟩
/-- what the reference keeps of it -/
def sp_bM (M : px_M) (b t : Int32) : px_M := if b = -1 then M else px_I (px_I M 24 t) 25 1
section BSB
variable {h g : cz_H} {x c m : Nat} {X : cx_X} {s : Nat → Int32} {nm : Nat → Int64} {M : px_M}
theorem pm_best_38 {y : Int32} {k0 : Int32 → cz_H → cz_Z} (ok : sp_ok s) : ∀ (n f k : Nat) (a : Int32), k + n = sp_n s 2 → n < f → fn_X5_best_38 (some m) y k0 f a (Int32.ofNat k) (px_set g m (px_S M s)) = k0 (sp_off s y n k a) (px_set g m (px_S M s)) := by
  have h8 := ok.2.2.1.2
  intro n
  induction n with
  | zero =>
    intro f k a hk hf
    obtain ⟨f, rfl⟩ : ∃ g, f = g + 1 := ⟨f - 1, by omega⟩
    rw [fn_X5_best_38]
    simp (disch := first | assumption | omega) only [qln, qsn, ql_0, ql_1, ql_2, ql_3, ql_4, ql_5, ql_6, ql_7, ql_62, qs_62, ql_63, qs_63, ql_64, qs_64, ql_117, qs_117, ql_118, qs_118, pl_h_0, ps_h_0, pl_h_1, ps_h_1, pl_h_2, ps_h_2, ps_h_4, ps_h_5, ps_h_6, pl_h_7, ps_h_7, ps_reserved_0, ps_reserved_1, ps_reserved_2, ps_reserved_3, ps_reserved_4, ps_reserved_5, ps_reserved_6, ps_reserved_7, ps_reserved_8, ps_reserved_9, ps_reserved_10, ps_reserved_11, ps_reserved_12, ps_reserved_13, ps_reserved_14, ps_reserved_15, ps_reserved_16, ps_reserved_17, ps_reserved_18, ps_reserved_19, ps_reserved_20, ps_reserved_21, ps_reserved_22, ps_reserved_23, pl_toldAt_0, ps_toldAt_0, pl_toldAt_1, ps_toldAt_1, ps_toldAt_2, ps_toldAt_3, pl_truths_0, px_c8, px_c10, px_c16, px_c20, px_c22, px_c30, px_c36, px_c38, px_c46, px_c54, px_c62, px_c65, px_c73, px_c81, px_c89, px_c97, px_c103, px_c109, px_c119, pr_tape, pln_tape, psn_tape, pr_s, pr_h, pln_h, psn_h, pr_read, pln_read, psn_read, pr_names, pln_names, psn_names, pr_reserved, pln_reserved, psn_reserved, pr_undone, pln_undone, psn_undone, pr_before, pln_before, psn_before, pr_sat, pln_sat, psn_sat, pr_toldAt, pln_toldAt, psn_toldAt, pr_stack, pln_stack, psn_stack, pr_truths, pln_truths, psn_truths, pr_kept, pln_kept, psn_kept, pr_namesKept, pln_namesKept, psn_namesKept, pr_areKept, pln_areKept, psn_areKept, px_c1r, px_rc, px_cI, px_cR, px_cV, px_ckz, px_ckz0, px_ckz1, px_getJ, px_putJ, cz_leti, cz_jn, pg_thrown, pp_thrown, pg_length, pp_length, pg_size, pp_size, pg_p, pp_p, pg_limit, pp_limit, pg_token, pp_token, pg_at, pp_at, pg_span, pp_span, pg_number, pp_number, pg_fault, pp_fault, pg_faultAt, pp_faultAt, pg_got, pp_got, pg_lines, pp_lines, pg_onces, pp_onces, pg_undoMany, pp_undoMany, pg_laidSet, pp_laidSet, pg_hasLaid, pp_hasLaid, pg_turnSet, pp_turnSet, pg_hasTurns, pp_hasTurns, pg_frostDay, pp_frostDay, pg_surelySet, pp_surelySet, pg_neverSet, pp_neverSet, pg_hasHooks, pp_hasHooks, pg_priceNow, pp_priceNow, pg_hasPrice, pp_hasPrice, pg_seed, pp_seed, pg_toldMany, pp_toldMany, pg_hasTold, pp_hasTold, pg_codes, pp_codes, pg_ones, pp_ones, pg_top, pp_top, pg_deep, pp_deep, pg_isWhole, pp_isWhole, px_SAne, px_SL, px_SI, px_SW, px_S1, px_S2, px_S4, px_S3]
    rw [ok.2.2.1.1, if_pos (by rw [px_le (by omega) (by omega)]; omega)]
    rfl
  | succ n ih =>
    intro f k a hk hf
    obtain ⟨f, rfl⟩ : ∃ g, f = g + 1 := ⟨f - 1, by omega⟩
    rw [fn_X5_best_38]
    simp (disch := first | assumption | omega) only [qln, qsn, ql_0, ql_1, ql_2, ql_3, ql_4, ql_5, ql_6, ql_7, ql_62, qs_62, ql_63, qs_63, ql_64, qs_64, ql_117, qs_117, ql_118, qs_118, pl_h_0, ps_h_0, pl_h_1, ps_h_1, pl_h_2, ps_h_2, ps_h_4, ps_h_5, ps_h_6, pl_h_7, ps_h_7, ps_reserved_0, ps_reserved_1, ps_reserved_2, ps_reserved_3, ps_reserved_4, ps_reserved_5, ps_reserved_6, ps_reserved_7, ps_reserved_8, ps_reserved_9, ps_reserved_10, ps_reserved_11, ps_reserved_12, ps_reserved_13, ps_reserved_14, ps_reserved_15, ps_reserved_16, ps_reserved_17, ps_reserved_18, ps_reserved_19, ps_reserved_20, ps_reserved_21, ps_reserved_22, ps_reserved_23, pl_toldAt_0, ps_toldAt_0, pl_toldAt_1, ps_toldAt_1, ps_toldAt_2, ps_toldAt_3, pl_truths_0, px_c8, px_c10, px_c16, px_c20, px_c22, px_c30, px_c36, px_c38, px_c46, px_c54, px_c62, px_c65, px_c73, px_c81, px_c89, px_c97, px_c103, px_c109, px_c119, pr_tape, pln_tape, psn_tape, pr_s, pr_h, pln_h, psn_h, pr_read, pln_read, psn_read, pr_names, pln_names, psn_names, pr_reserved, pln_reserved, psn_reserved, pr_undone, pln_undone, psn_undone, pr_before, pln_before, psn_before, pr_sat, pln_sat, psn_sat, pr_toldAt, pln_toldAt, psn_toldAt, pr_stack, pln_stack, psn_stack, pr_truths, pln_truths, psn_truths, pr_kept, pln_kept, psn_kept, pr_namesKept, pln_namesKept, psn_namesKept, pr_areKept, pln_areKept, psn_areKept, px_c1r, px_rc, px_cI, px_cR, px_cV, px_ckz, px_ckz0, px_ckz1, px_getJ, px_putJ, cz_leti, cz_jn, pg_thrown, pp_thrown, pg_length, pp_length, pg_size, pp_size, pg_p, pp_p, pg_limit, pp_limit, pg_token, pp_token, pg_at, pp_at, pg_span, pp_span, pg_number, pp_number, pg_fault, pp_fault, pg_faultAt, pp_faultAt, pg_got, pp_got, pg_lines, pp_lines, pg_onces, pp_onces, pg_undoMany, pp_undoMany, pg_laidSet, pp_laidSet, pg_hasLaid, pp_hasLaid, pg_turnSet, pp_turnSet, pg_hasTurns, pp_hasTurns, pg_frostDay, pp_frostDay, pg_surelySet, pp_surelySet, pg_neverSet, pp_neverSet, pg_hasHooks, pp_hasHooks, pg_priceNow, pp_priceNow, pg_hasPrice, pp_hasPrice, pg_seed, pp_seed, pg_toldMany, pp_toldMany, pg_hasTold, pp_hasTold, pg_codes, pp_codes, pg_ones, pp_ones, pg_top, pp_top, pg_deep, pp_deep, pg_isWhole, pp_isWhole, px_SAne, px_SL, px_SI, px_SW, px_S1, px_S2, px_S4, px_S3]
    rw [ok.2.2.1.1, if_neg (by rw [px_le (by omega) (by omega)]; omega)]
    have e : sp_off s y (n + 1) k a = sp_off s y n (k + 1) (if s (22 + k) = y then a else a &&& (((1 : Int32) <<< (Int32.ofNat k &&& 31)) ^^^ (-1))) := rfl
    rw [e]
    split <;> exact ih f (k + 1) _ (by omega) (by omega)
theorem sp_lt_ne {b w : Int32} (h1 : -1 ≤ b) (h2 : b < w) : ¬ w = -1 ∧ -1 ≤ w := ⟨fun e => by rw [e] at h2; exact absurd h2 (Int32.not_lt.mpr h1), Int32.le_trans h1 (Int32.le_of_lt h2)⟩
theorem pm_best_86 {y v : Nat} {hh w : Int32} {k0 : Int32 → cz_H → cz_Z} (hb : g.1.1 ≤ m) (ok : sp_ok s) (hy : y < 6) (hv : v < 256) : ∀ (n f k : Nat) (b t : Int32), k + n = v + 1 → n < f → -1 ≤ b → fn_X5_best_86 (some m) (Int32.ofNat y) hh w (Int32.ofNat v) k0 f b (Int32.ofNat k) (px_set g m (px_S (sp_bM M b t) s)) = k0 (sp_fold (sp_bs1 s y hh w (Int32.ofNat v)) n k (b, t)).1 (px_set g m (px_S (sp_bM M (sp_fold (sp_bs1 s y hh w (Int32.ofNat v)) n k (b, t)).1 (sp_fold (sp_bs1 s y hh w (Int32.ofNat v)) n k (b, t)).2) s)) := by
  intro n
  induction n with
  | zero =>
    intro f k b t hk hf hbb
    obtain ⟨f, rfl⟩ : ∃ g, f = g + 1 := ⟨f - 1, by omega⟩
    rw [fn_X5_best_86, if_pos (by rw [px_lt (by omega) (by omega)]; omega)]
    rfl
  | succ n ih =>
    intro f k b t hk hf hbb
    obtain ⟨f, rfl⟩ : ∃ g, f = g + 1 := ⟨f - 1, by omega⟩
    rw [fn_X5_best_86, if_neg (by rw [px_lt (by omega) (by omega)]; omega), sp_fold]
    simp only [cz_leti, px_c1r]
    have un : sp_bs1 s y hh w (Int32.ofNat v) k (b, t) = if (Int32.ofNat k &&& (Int32.ofNat v ^^^ (-1))) = 0 then (if sp_H s y (s 62) (w &&& (Int32.ofNat k ^^^ (-1))) ≤ hh then (if b < sp_wo s (sp_pop k) 0 0 then (sp_wo s (sp_pop k) 0 0, Int32.ofNat k) else (b, t)) else (b, t)) else (b, t) := rfl
    rw [un]
    by_cases e1 : (Int32.ofNat k &&& (Int32.ofNat v ^^^ (-1))) = 0
    · rw [if_pos e1, if_pos e1]
      simp (disch := first | assumption | omega) only [pr_s, ql_62, px_rc, pm_chillIn ok hy, px_cI]
      by_cases e2 : sp_H s y (s 62) (w &&& (Int32.ofNat k ^^^ (-1))) ≤ hh
      · have e2' : ¬ hh < sp_chillIn s y (s 62) (w &&& (Int32.ofNat k ^^^ (-1))) * sp_chillIn s y (s 62) (w &&& (Int32.ofNat k ^^^ (-1))) := Int32.not_lt.mpr e2
        rw [if_neg e2', if_pos e2, pm_bits (show k < 256 by omega), px_cI, px_rc, pm_worthOf ok (sp_pop_le k), px_cI]
        by_cases e3 : b < sp_wo s (sp_pop k) 0 0
        · obtain ⟨q1, q2⟩ := sp_lt_ne hbb e3
          rw [if_pos e3, if_pos e3, pm_bits (show k < 256 by omega), px_cI, px_rc, pm_worthOf ok (sp_pop_le k), px_cI, pp_laidSet hb, px_SI, pp_hasLaid hb, px_SI]
          have eM : px_I (px_I (sp_bM M b t) 24 (Int32.ofNat k)) 25 1 = sp_bM M (sp_wo s (sp_pop k) 0 0) (Int32.ofNat k) := by
            unfold sp_bM
            rw [if_neg q1]
            split
            · rfl
            · rw [px_IC (M := px_I M 24 t) (show 25 ≠ 24 by decide), px_II, px_II]
          rw [eM]
          exact ih f (k + 1) _ _ (by omega) (by omega) q2
        · rw [if_neg e3, if_neg e3]
          exact ih f (k + 1) b t (by omega) (by omega) hbb
      · have e2' : hh < sp_chillIn s y (s 62) (w &&& (Int32.ofNat k ^^^ (-1))) * sp_chillIn s y (s 62) (w &&& (Int32.ofNat k ^^^ (-1))) := Int32.not_le.mp e2
        rw [if_pos e2', if_neg e2]
        exact ih f (k + 1) b t (by omega) (by omega) hbb
    · rw [if_neg e1, if_neg e1]
      exact ih f (k + 1) b t (by omega) (by omega) hbb
theorem cm_best_51 {y v : Nat} {hh w : Int32} {k0 : Int32 → Int32 → cz_H → cz_Z} (hc : X.2.1 0 = some c) (H : cx_st h x X 0 c s nm) (hy : y < sp_n s 1) (hv : v < 256) : ∀ (n f k : Nat) (b : Int32) (t : Int32), k + n = v + 1 → n < f → fn_X1_best_51 (some x) (Int32.ofNat y) hh w (Int32.ofNat v) k0 f b t (Int32.ofNat k) (cx_set h x X) = k0 (sp_fold (sp_bs1 s y hh w (Int32.ofNat v)) n k (b, t)).1 (sp_fold (sp_bs1 s y hh w (Int32.ofNat v)) n k (b, t)).2 (cx_set h x X) := by
  intro n
  induction n with
  | zero =>
    intro f k b t hk hf
    obtain ⟨f, rfl⟩ : ∃ g, f = g + 1 := ⟨f - 1, by omega⟩
    rw [fn_X1_best_51, if_pos (by rw [px_lt (by omega) (by omega)]; omega)]
    rfl
  | succ n ih =>
    intro f k b t hk hf
    obtain ⟨f, rfl⟩ : ∃ g, f = g + 1 := ⟨f - 1, by omega⟩
    rw [fn_X1_best_51, if_neg (by rw [px_lt (by omega) (by omega)]; omega), sp_fold]
    simp only [cz_leti, px_c1r, cg_now, n0_day, H.2.2.2.1, n0_rc, n0_chill H hy, px_cI, pc_square, pc_bitCount (show k < 256 by omega), cx_rc, cm_worthOf hc H (sp_pop_le k)]
    have un : sp_bs1 s y hh w (Int32.ofNat v) k (b, t) = if (Int32.ofNat k &&& (Int32.ofNat v ^^^ (-1))) = 0 then (if sp_chillIn s y (s 62) (w &&& (Int32.ofNat k ^^^ (-1))) * sp_chillIn s y (s 62) (w &&& (Int32.ofNat k ^^^ (-1))) ≤ hh then (if b < sp_wo s (sp_pop k) 0 0 then (sp_wo s (sp_pop k) 0 0, Int32.ofNat k) else (b, t)) else (b, t)) else (b, t) := rfl
    rw [un]
    split
    rotate_left
    · exact ih f (k + 1) b t (by omega) (by omega)
    split
    rotate_left
    · exact ih f (k + 1) b t (by omega) (by omega)
    split <;> exact ih f (k + 1) _ _ (by omega) (by omega)
theorem op_best {y n : Int32} (hb : h.1.1 ≤ x) (hc : X.2.1 0 = some c) (H : cx_st h x X 0 c s nm) : ∃ (a t : Int32), (fn_X1_best (some x) y n (cx_set h x X) = some (.inl (some (cz_i a)), cx_set h x X) ∧ ∀ (g : cz_H) (m : Nat), g.1.1 ≤ m → fn_X5_best (some m) y n (px_set g m (px_S M s)) = some (.inl (some (cz_i a)), px_set g m (px_S (px_I M 0 0) s))) ∨ (fn_X1_best (some x) y n (cx_set h x X) = some (.inl (some (cz_i a)), cx_set h x (cx_I X 9 t)) ∧ ∀ (g : cz_H) (m : Nat), g.1.1 ≤ m → fn_X5_best (some m) y n (px_set g m (px_S M s)) = some (.inl (some (cz_i a)), px_set g m (px_S (px_I (px_I (px_I M 0 0) 24 t) 25 1) s))) := by
  have ok := H.1.1.1.1
  have h6 := ok.2.1.2
  have h8 := ok.2.2.1.2
  by_cases t1 : ¬ (0 ≤ y ∧ y ≤ Int32.ofNat (sp_n s 1) - 1)
  · refine ⟨-1, 0, Or.inl ⟨?_, fun g m hb => ?_⟩⟩
    · rw [fn_X1_best, cx_rc, cm_isMan hc H, px_cI, if_neg t1, if_pos rfl]
    · rw [fn_X5_best]
      simp (disch := first | assumption | omega) only [pp_thrown, px_SI, px_rc, pm_isMan ok, px_cI]
      rw [if_neg t1, if_pos rfl]
  have t1 := Classical.not_not.mp t1
  by_cases t2 : ¬ (0 ≤ n ∧ n ≤ 999)
  · refine ⟨-1, 0, Or.inl ⟨?_, fun g m hb => ?_⟩⟩
    · rw [fn_X1_best, cx_rc, cm_isMan hc H, px_cI, if_pos t1, if_neg (by decide), pc_isIn, px_cI, if_neg t2, if_pos rfl]
    · rw [fn_X5_best]
      simp (disch := first | assumption | omega) only [pp_thrown, px_SI, px_rc, pm_isMan ok, px_cI]
      rw [if_pos t1, if_neg (by decide), pm_isIn, px_cI, if_neg t2, if_pos rfl]
  have t2 := Classical.not_not.mp t2
  have t1' := t1
  rw [px_range (by omega)] at t1'
  obtain ⟨ky, hy, rfl⟩ := t1'
  obtain ⟨v, hv, ev⟩ := sp_mine_256 (s := s) (y := Int32.ofNat ky) h8
  have com : fn_X1_best (some x) (Int32.ofNat ky) n (cx_set h x X) = if (sp_fold (sp_bs1 s ky n (sp_coatsAt s (Int32.ofNat ky)) (Int32.ofNat v)) (v + 1) 0 (-1, -1)).1 = -1 then some (.inl (some (cz_i (-1))), cx_set h x X) else some (.inl (some (cz_i (sp_fold (sp_bs1 s ky n (sp_coatsAt s (Int32.ofNat ky)) (Int32.ofNat v)) (v + 1) 0 (-1, -1)).1)), cx_set h x (cx_I X 9 (sp_fold (sp_bs1 s ky n (sp_coatsAt s (Int32.ofNat ky)) (Int32.ofNat v)) (v + 1) 0 (-1, -1)).2)) := by
    rw [fn_X1_best, cx_rc, cm_isMan hc H, px_cI, if_pos t1, if_neg (by decide), pc_isIn, px_cI, if_pos t2, if_neg (by decide)]
    simp only [cg_now, n0_rc, n0_wornBy H, px_cI, cg_capital, hc, pc_crc H.cap, pc_coatsOf ok H.cap, cz_leti, ev]
    refine (cm_best_51 hc H hy hv (v + 1) 1000 0 (-1) (-1) (Nat.zero_add _) (by omega)).trans ?_
    rw [cp_laid hb]
  have ref : ∀ (g : cz_H) (m : Nat), g.1.1 ≤ m → fn_X5_best (some m) (Int32.ofNat ky) n (px_set g m (px_S M s)) = some (.inl (some (cz_i (sp_fold (sp_bs1 s ky n (sp_coatsAt s (Int32.ofNat ky)) (Int32.ofNat v)) (v + 1) 0 (-1, -1)).1)), px_set g m (px_S (sp_bM (px_I M 0 0) (sp_fold (sp_bs1 s ky n (sp_coatsAt s (Int32.ofNat ky)) (Int32.ofNat v)) (v + 1) 0 (-1, -1)).1 (sp_fold (sp_bs1 s ky n (sp_coatsAt s (Int32.ofNat ky)) (Int32.ofNat v)) (v + 1) 0 (-1, -1)).2) s)) := by
    intro g m hb
    rw [fn_X5_best]
    simp (disch := first | assumption | omega) only [pp_thrown, px_SI, px_rc, pm_isMan ok, px_cI]
    rw [if_pos t1, if_neg (by decide), pm_isIn, px_cI, if_pos t2, if_neg (by decide), px_rc, pm_coatsAt ok, px_cI]
    refine (pm_best_38 ok (sp_n s 2) 1000 0 _ (Nat.zero_add _) (by omega)).trans ?_
    rw [sp_off_eq h8, ev]
    have := pm_best_86 (M := px_I M 0 0) (hh := n) (w := sp_coatsAt s (Int32.ofNat ky)) (k0 := fun (e65 : Int32) (h66 : cz_H) => some (.inl (some (cz_i e65)), h66)) hb ok (show ky < 6 by omega) hv (v + 1) 1000 0 (-1) (-1) (Nat.zero_add _) (by omega) (by decide)
    exact this
  by_cases e : (sp_fold (sp_bs1 s ky n (sp_coatsAt s (Int32.ofNat ky)) (Int32.ofNat v)) (v + 1) 0 (-1, -1)).1 = -1
  · refine ⟨-1, 0, Or.inl ⟨by rw [com, if_pos e], fun g m hb => ?_⟩⟩
    rw [ref g m hb, e]
    rfl
  · refine ⟨(sp_fold (sp_bs1 s ky n (sp_coatsAt s (Int32.ofNat ky)) (Int32.ofNat v)) (v + 1) 0 (-1, -1)).1, (sp_fold (sp_bs1 s ky n (sp_coatsAt s (Int32.ofNat ky)) (Int32.ofNat v)) (v + 1) 0 (-1, -1)).2, Or.inr ⟨by rw [com, if_neg e], fun g m hb => ?_⟩⟩
    rw [ref g m hb]
    unfold sp_bM
    rw [if_neg e]
end BSB
