/-! THE PLAIN LAW, 6: days that go on, what is kept and taken back -/
set_option maxRecDepth 100000
noncomputable def sp_goes : Nat → Nat → (Nat → Int32) → Nat × (Nat → Int32)
  | 0, k, s => (k, s)
  | n + 1, k, s => if 400 ≤ s 62 then (k, s) else sp_goes n (k + 1) (sp_day s)
theorem sp_goes_oq : ∀ (n k : Nat) (s : Nat → Int32), sp_oq s → sp_oq (sp_goes n k s).2 ∧ sp_same s (sp_goes n k s).2 := by
  intro n
  induction n with
  | zero => intro k s h; exact ⟨h, sp_same.rf⟩
  | succ n ih =>
    intro k s h
    rw [sp_goes]
    split
    · exact ⟨h, sp_same.rf⟩
    · obtain ⟨a, b⟩ := sp_day_oq h
      obtain ⟨c, d⟩ := ih (k + 1) _ a
      exact ⟨c, b.tr d⟩
/-- k, if it is one of n -/
theorem px_range {x : Int32} {n : Nat} (hn : n < 1000) : (0 ≤ x ∧ x ≤ Int32.ofNat n - 1) = ∃ k, k < n ∧ x = Int32.ofNat k := by
  apply propext
  have e1 : (Int32.ofNat n - 1).toInt = (n : Int) - 1 := by
    rw [Int32.toInt_sub, Int32.toInt_ofNat_small (by omega), show (1 : Int32).toInt = 1 by decide]
    apply Int.bmod_eq_of_le <;> omega
  constructor
  · rintro ⟨a, b⟩
    have a' : (0 : Int) ≤ x.toInt := by simpa using Int32.le_iff_toInt_le.mp a
    have b' := Int32.le_iff_toInt_le.mp b
    rw [e1] at b'
    refine ⟨x.toInt.toNat, by omega, ?_⟩
    apply Int32.toInt_inj.mp
    rw [Int32.toInt_ofNat_small (by omega)]
    omega
  · rintro ⟨k, hk, rfl⟩
    refine ⟨px_nn k (by omega), ?_⟩
    apply Int32.le_iff_toInt_le.mpr
    rw [e1, Int32.toInt_ofNat_small (by omega)]
    omega
/-- a stretch of n, from src at o to d -/
def sp_cp (src : Nat → Int32) (o d : Nat) : Nat → Nat → (Nat → Int32) → Nat → Int32 := sp_fold (fun k a => upd a (d + k) (src (o + k)))
theorem sp_cp_at (src : Nat → Int32) (o d : Nat) : ∀ (n k : Nat) (a : Nat → Int32) (q : Nat), sp_cp src o d n k a q = if d + k ≤ q ∧ q < d + k + n then src (o + (q - d)) else a q := by
  intro n
  induction n with
  | zero => intro k a q; rw [if_neg (by omega)]; rfl
  | succ n ih =>
    intro k a q
    have e : sp_cp src o d (n + 1) k a = sp_cp src o d n (k + 1) (upd a (d + k) (src (o + k))) := rfl
    rw [e, ih]
    by_cases h1 : q = d + k
    · subst h1
      rw [if_neg (by omega), if_pos (by omega), px_ueq, show d + k - d = k by omega]
    · by_cases h2 : d + (k + 1) ≤ q ∧ q < d + (k + 1) + n
      · rw [if_pos h2, if_pos (by omega)]
      · rw [if_neg h2, if_neg (by omega), px_une h1]
/-- an array is put -/
def px_B (M : px_M) (j : Nat) (g : Nat → Int32) : px_M := (M.1, M.2.1, fun q => if q = j then g else M.2.2.1 q, M.2.2.2)
theorem px_AB {M : px_M} {j n : Nat} {v : Int32} {g : Nat → Int32} : px_A (px_B M j g) j n v = px_B M j (upd g n v) := by
  unfold px_A px_B
  refine Prod.ext rfl (Prod.ext rfl (Prod.ext ?_ rfl))
  funext q
  dsimp only
  split
  · rw [if_pos rfl]
  · rfl
theorem px_Bid (M : px_M) (j : Nat) : px_B M j (M.2.2.1 j) = M := by
  unfold px_B
  refine Prod.ext rfl (Prod.ext rfl (Prod.ext ?_ rfl))
  funext q
  dsimp only
  split
  · rename_i e; rw [e]
  · rfl
theorem px_B3 {M : px_M} {j : Nat} {g : Nat → Int32} : (px_B M j g).2.2.1 j = g := if_pos rfl
theorem px_B1 {M : px_M} {j : Nat} {g : Nat → Int32} : (px_B M j g).1 = M.1 := by
  unfold px_B
  rfl
theorem px_B2 {M : px_M} {j : Nat} {g : Nat → Int32} : (px_B M j g).2.1 = M.2.1 := by
  unfold px_B
  rfl
theorem px_B4 {M : px_M} {j : Nat} {g : Nat → Int32} : (px_B M j g).2.2.2 = M.2.2.2 := by
  unfold px_B
  rfl
theorem px_BI {M : px_M} {i j : Nat} {g : Nat → Int32} {v : Int32} : px_I (px_B M j g) i v = px_B (px_I M i v) j g := rfl
section SPD
variable {h : cz_H} {m : Nat} {M : px_M} {s : Nat → Int32}
theorem pm_isSeat {x : Int32} (ok : sp_ok s) : fn_X5_isSeat (some m) x (px_set h m (px_S M s)) = some (.inl (some (cz_i (if 0 ≤ x ∧ x ≤ Int32.ofNat (sp_n s 0) - 1 then 1 else 0))), px_set h m (px_S M s)) := by
  rw [fn_X5_isSeat]
  simp (disch := first | assumption | omega) only [qln, qsn, ql_0, ql_1, ql_2, ql_3, ql_4, ql_5, ql_6, ql_7, ql_62, qs_62, ql_63, qs_63, ql_64, qs_64, ql_117, qs_117, ql_118, qs_118, pl_h_0, ps_h_0, pl_h_1, ps_h_1, pl_h_2, ps_h_2, ps_h_4, ps_h_5, ps_h_6, pl_h_7, ps_h_7, ps_reserved_0, ps_reserved_1, ps_reserved_2, ps_reserved_3, ps_reserved_4, ps_reserved_5, ps_reserved_6, ps_reserved_7, ps_reserved_8, ps_reserved_9, ps_reserved_10, ps_reserved_11, ps_reserved_12, ps_reserved_13, ps_reserved_14, ps_reserved_15, ps_reserved_16, ps_reserved_17, ps_reserved_18, ps_reserved_19, ps_reserved_20, ps_reserved_21, ps_reserved_22, ps_reserved_23, pl_toldAt_0, ps_toldAt_0, pl_toldAt_1, ps_toldAt_1, ps_toldAt_2, ps_toldAt_3, pl_truths_0, px_c8, px_c10, px_c16, px_c20, px_c22, px_c30, px_c36, px_c38, px_c46, px_c54, px_c62, px_c65, px_c73, px_c81, px_c89, px_c97, px_c103, px_c109, px_c119, pr_tape, pln_tape, psn_tape, pr_s, pr_h, pln_h, psn_h, pr_read, pln_read, psn_read, pr_names, pln_names, psn_names, pr_reserved, pln_reserved, psn_reserved, pr_undone, pln_undone, psn_undone, pr_before, pln_before, psn_before, pr_sat, pln_sat, psn_sat, pr_toldAt, pln_toldAt, psn_toldAt, pr_stack, pln_stack, psn_stack, pr_truths, pln_truths, psn_truths, pr_kept, pln_kept, psn_kept, pr_namesKept, pln_namesKept, psn_namesKept, pr_areKept, pln_areKept, psn_areKept, px_c1r, px_rc, px_cI, px_cR, px_cV, px_ckz, px_ckz0, px_ckz1, px_getJ, px_putJ, cz_leti, cz_jn, pg_thrown, pp_thrown, pg_length, pp_length, pg_size, pp_size, pg_p, pp_p, pg_limit, pp_limit, pg_token, pp_token, pg_at, pp_at, pg_span, pp_span, pg_number, pp_number, pg_fault, pp_fault, pg_faultAt, pp_faultAt, pg_got, pp_got, pg_lines, pp_lines, pg_onces, pp_onces, pg_undoMany, pp_undoMany, pg_laidSet, pp_laidSet, pg_hasLaid, pp_hasLaid, pg_turnSet, pp_turnSet, pg_hasTurns, pp_hasTurns, pg_frostDay, pp_frostDay, pg_surelySet, pp_surelySet, pg_neverSet, pp_neverSet, pg_hasHooks, pp_hasHooks, pg_priceNow, pp_priceNow, pg_hasPrice, pp_hasPrice, pg_seed, pp_seed, pg_toldMany, pp_toldMany, pg_hasTold, pp_hasTold, pg_codes, pp_codes, pg_ones, pp_ones, pg_top, pp_top, pg_deep, pp_deep, pg_isWhole, pp_isWhole, px_SAne, px_SL, px_SI, px_SW, px_S1, px_S2, px_S4, px_S3, pm_isIn]
  rw [← ok.1.1]
theorem pm_isMan {x : Int32} (ok : sp_ok s) : fn_X5_isMan (some m) x (px_set h m (px_S M s)) = some (.inl (some (cz_i (if 0 ≤ x ∧ x ≤ Int32.ofNat (sp_n s 1) - 1 then 1 else 0))), px_set h m (px_S M s)) := by
  rw [fn_X5_isMan]
  simp (disch := first | assumption | omega) only [qln, qsn, ql_0, ql_1, ql_2, ql_3, ql_4, ql_5, ql_6, ql_7, ql_62, qs_62, ql_63, qs_63, ql_64, qs_64, ql_117, qs_117, ql_118, qs_118, pl_h_0, ps_h_0, pl_h_1, ps_h_1, pl_h_2, ps_h_2, ps_h_4, ps_h_5, ps_h_6, pl_h_7, ps_h_7, ps_reserved_0, ps_reserved_1, ps_reserved_2, ps_reserved_3, ps_reserved_4, ps_reserved_5, ps_reserved_6, ps_reserved_7, ps_reserved_8, ps_reserved_9, ps_reserved_10, ps_reserved_11, ps_reserved_12, ps_reserved_13, ps_reserved_14, ps_reserved_15, ps_reserved_16, ps_reserved_17, ps_reserved_18, ps_reserved_19, ps_reserved_20, ps_reserved_21, ps_reserved_22, ps_reserved_23, pl_toldAt_0, ps_toldAt_0, pl_toldAt_1, ps_toldAt_1, ps_toldAt_2, ps_toldAt_3, pl_truths_0, px_c8, px_c10, px_c16, px_c20, px_c22, px_c30, px_c36, px_c38, px_c46, px_c54, px_c62, px_c65, px_c73, px_c81, px_c89, px_c97, px_c103, px_c109, px_c119, pr_tape, pln_tape, psn_tape, pr_s, pr_h, pln_h, psn_h, pr_read, pln_read, psn_read, pr_names, pln_names, psn_names, pr_reserved, pln_reserved, psn_reserved, pr_undone, pln_undone, psn_undone, pr_before, pln_before, psn_before, pr_sat, pln_sat, psn_sat, pr_toldAt, pln_toldAt, psn_toldAt, pr_stack, pln_stack, psn_stack, pr_truths, pln_truths, psn_truths, pr_kept, pln_kept, psn_kept, pr_namesKept, pln_namesKept, psn_namesKept, pr_areKept, pln_areKept, psn_areKept, px_c1r, px_rc, px_cI, px_cR, px_cV, px_ckz, px_ckz0, px_ckz1, px_getJ, px_putJ, cz_leti, cz_jn, pg_thrown, pp_thrown, pg_length, pp_length, pg_size, pp_size, pg_p, pp_p, pg_limit, pp_limit, pg_token, pp_token, pg_at, pp_at, pg_span, pp_span, pg_number, pp_number, pg_fault, pp_fault, pg_faultAt, pp_faultAt, pg_got, pp_got, pg_lines, pp_lines, pg_onces, pp_onces, pg_undoMany, pp_undoMany, pg_laidSet, pp_laidSet, pg_hasLaid, pp_hasLaid, pg_turnSet, pp_turnSet, pg_hasTurns, pp_hasTurns, pg_frostDay, pp_frostDay, pg_surelySet, pp_surelySet, pg_neverSet, pp_neverSet, pg_hasHooks, pp_hasHooks, pg_priceNow, pp_priceNow, pg_hasPrice, pp_hasPrice, pg_seed, pp_seed, pg_toldMany, pp_toldMany, pg_hasTold, pp_hasTold, pg_codes, pp_codes, pg_ones, pp_ones, pg_top, pp_top, pg_deep, pp_deep, pg_isWhole, pp_isWhole, px_SAne, px_SL, px_SI, px_SW, px_S1, px_S2, px_S4, px_S3, pm_isIn]
  rw [← ok.2.1.1]
theorem pm_isCoat {x : Int32} (ok : sp_ok s) : fn_X5_isCoat (some m) x (px_set h m (px_S M s)) = some (.inl (some (cz_i (if 0 ≤ x ∧ x ≤ Int32.ofNat (sp_n s 2) - 1 then 1 else 0))), px_set h m (px_S M s)) := by
  rw [fn_X5_isCoat]
  simp (disch := first | assumption | omega) only [qln, qsn, ql_0, ql_1, ql_2, ql_3, ql_4, ql_5, ql_6, ql_7, ql_62, qs_62, ql_63, qs_63, ql_64, qs_64, ql_117, qs_117, ql_118, qs_118, pl_h_0, ps_h_0, pl_h_1, ps_h_1, pl_h_2, ps_h_2, ps_h_4, ps_h_5, ps_h_6, pl_h_7, ps_h_7, ps_reserved_0, ps_reserved_1, ps_reserved_2, ps_reserved_3, ps_reserved_4, ps_reserved_5, ps_reserved_6, ps_reserved_7, ps_reserved_8, ps_reserved_9, ps_reserved_10, ps_reserved_11, ps_reserved_12, ps_reserved_13, ps_reserved_14, ps_reserved_15, ps_reserved_16, ps_reserved_17, ps_reserved_18, ps_reserved_19, ps_reserved_20, ps_reserved_21, ps_reserved_22, ps_reserved_23, pl_toldAt_0, ps_toldAt_0, pl_toldAt_1, ps_toldAt_1, ps_toldAt_2, ps_toldAt_3, pl_truths_0, px_c8, px_c10, px_c16, px_c20, px_c22, px_c30, px_c36, px_c38, px_c46, px_c54, px_c62, px_c65, px_c73, px_c81, px_c89, px_c97, px_c103, px_c109, px_c119, pr_tape, pln_tape, psn_tape, pr_s, pr_h, pln_h, psn_h, pr_read, pln_read, psn_read, pr_names, pln_names, psn_names, pr_reserved, pln_reserved, psn_reserved, pr_undone, pln_undone, psn_undone, pr_before, pln_before, psn_before, pr_sat, pln_sat, psn_sat, pr_toldAt, pln_toldAt, psn_toldAt, pr_stack, pln_stack, psn_stack, pr_truths, pln_truths, psn_truths, pr_kept, pln_kept, psn_kept, pr_namesKept, pln_namesKept, psn_namesKept, pr_areKept, pln_areKept, psn_areKept, px_c1r, px_rc, px_cI, px_cR, px_cV, px_ckz, px_ckz0, px_ckz1, px_getJ, px_putJ, cz_leti, cz_jn, pg_thrown, pp_thrown, pg_length, pp_length, pg_size, pp_size, pg_p, pp_p, pg_limit, pp_limit, pg_token, pp_token, pg_at, pp_at, pg_span, pp_span, pg_number, pp_number, pg_fault, pp_fault, pg_faultAt, pp_faultAt, pg_got, pp_got, pg_lines, pp_lines, pg_onces, pp_onces, pg_undoMany, pp_undoMany, pg_laidSet, pp_laidSet, pg_hasLaid, pp_hasLaid, pg_turnSet, pp_turnSet, pg_hasTurns, pp_hasTurns, pg_frostDay, pp_frostDay, pg_surelySet, pp_surelySet, pg_neverSet, pp_neverSet, pg_hasHooks, pp_hasHooks, pg_priceNow, pp_priceNow, pg_hasPrice, pp_hasPrice, pg_seed, pp_seed, pg_toldMany, pp_toldMany, pg_hasTold, pp_hasTold, pg_codes, pp_codes, pg_ones, pp_ones, pg_top, pp_top, pg_deep, pp_deep, pg_isWhole, pp_isWhole, px_SAne, px_SL, px_SI, px_SW, px_S1, px_S2, px_S4, px_S3, pm_isIn]
  rw [← ok.2.2.1.1]
theorem pm_goesOn_2 {k0 : Int32 → cz_H → cz_Z} {N : Nat} (hb : h.1.1 ≤ m) (hN : N ≤ 400) : ∀ (n f k : Nat) (s : Nat → Int32), sp_oq s → k + n = N → n < f → fn_X5_goesOn_2 (some m) (Int32.ofNat N) k0 f (Int32.ofNat k) (px_set h m (px_S M s)) = k0 (Int32.ofNat (sp_goes n k s).1) (px_set h m (px_S M (sp_goes n k s).2)) := by
  intro n
  induction n with
  | zero =>
    intro f k s oq hk hf
    obtain ⟨f, rfl⟩ : ∃ g, f = g + 1 := ⟨f - 1, by omega⟩
    rw [fn_X5_goesOn_2, if_pos (by rw [px_le (by omega) (by omega)]; omega)]
    rfl
  | succ n ih =>
    intro f k s oq hk hf
    obtain ⟨f, rfl⟩ : ∃ g, f = g + 1 := ⟨f - 1, by omega⟩
    rw [fn_X5_goesOn_2, if_neg (by rw [px_le (by omega) (by omega)]; omega)]
    simp (disch := first | assumption | omega) only [qln, qsn, ql_0, ql_1, ql_2, ql_3, ql_4, ql_5, ql_6, ql_7, ql_62, qs_62, ql_63, qs_63, ql_64, qs_64, ql_117, qs_117, ql_118, qs_118, pl_h_0, ps_h_0, pl_h_1, ps_h_1, pl_h_2, ps_h_2, ps_h_4, ps_h_5, ps_h_6, pl_h_7, ps_h_7, ps_reserved_0, ps_reserved_1, ps_reserved_2, ps_reserved_3, ps_reserved_4, ps_reserved_5, ps_reserved_6, ps_reserved_7, ps_reserved_8, ps_reserved_9, ps_reserved_10, ps_reserved_11, ps_reserved_12, ps_reserved_13, ps_reserved_14, ps_reserved_15, ps_reserved_16, ps_reserved_17, ps_reserved_18, ps_reserved_19, ps_reserved_20, ps_reserved_21, ps_reserved_22, ps_reserved_23, pl_toldAt_0, ps_toldAt_0, pl_toldAt_1, ps_toldAt_1, ps_toldAt_2, ps_toldAt_3, pl_truths_0, px_c8, px_c10, px_c16, px_c20, px_c22, px_c30, px_c36, px_c38, px_c46, px_c54, px_c62, px_c65, px_c73, px_c81, px_c89, px_c97, px_c103, px_c109, px_c119, pr_tape, pln_tape, psn_tape, pr_s, pr_h, pln_h, psn_h, pr_read, pln_read, psn_read, pr_names, pln_names, psn_names, pr_reserved, pln_reserved, psn_reserved, pr_undone, pln_undone, psn_undone, pr_before, pln_before, psn_before, pr_sat, pln_sat, psn_sat, pr_toldAt, pln_toldAt, psn_toldAt, pr_stack, pln_stack, psn_stack, pr_truths, pln_truths, psn_truths, pr_kept, pln_kept, psn_kept, pr_namesKept, pln_namesKept, psn_namesKept, pr_areKept, pln_areKept, psn_areKept, px_c1r, px_rc, px_cI, px_cR, px_cV, px_ckz, px_ckz0, px_ckz1, px_getJ, px_putJ, cz_leti, cz_jn, pg_thrown, pp_thrown, pg_length, pp_length, pg_size, pp_size, pg_p, pp_p, pg_limit, pp_limit, pg_token, pp_token, pg_at, pp_at, pg_span, pp_span, pg_number, pp_number, pg_fault, pp_fault, pg_faultAt, pp_faultAt, pg_got, pp_got, pg_lines, pp_lines, pg_onces, pp_onces, pg_undoMany, pp_undoMany, pg_laidSet, pp_laidSet, pg_hasLaid, pp_hasLaid, pg_turnSet, pp_turnSet, pg_hasTurns, pp_hasTurns, pg_frostDay, pp_frostDay, pg_surelySet, pp_surelySet, pg_neverSet, pp_neverSet, pg_hasHooks, pp_hasHooks, pg_priceNow, pp_priceNow, pg_hasPrice, pp_hasPrice, pg_seed, pp_seed, pg_toldMany, pp_toldMany, pg_hasTold, pp_hasTold, pg_codes, pp_codes, pg_ones, pp_ones, pg_top, pp_top, pg_deep, pp_deep, pg_isWhole, pp_isWhole, px_SAne, px_SL, px_SI, px_SW, px_S1, px_S2, px_S4, px_S3, pm_day hb oq, sp_goes]
    split
    · rfl
    · exact ih f (k + 1) _ (sp_day_oq oq).1 (by omega) (by omega)
theorem pm_goesOn {N : Nat} (hb : h.1.1 ≤ m) (hN : N ≤ 400) (oq : sp_oq s) : fn_X5_goesOn (some m) (Int32.ofNat N) (px_set h m (px_S M s)) = some (.inl (some (cz_i (Int32.ofNat (sp_goes N 0 s).1))), px_set h m (px_S M (sp_goes N 0 s).2)) := by
  rw [fn_X5_goesOn]
  exact pm_goesOn_2 hb hN N 1000 0 s oq (Nat.zero_add _) (by omega)
theorem pm_tries_2 {k0 : cz_H → cz_Z} (hb : h.1.1 ≤ m) : ∀ (n f k : Nat) (g : Nat → Int32), k + n = 56 → n < f → fn_X5_tries_2 (some m) k0 f (Int32.ofNat k) (px_set h m (px_S (px_B M 22 g) s)) = k0 (px_set h m (px_S (px_B M 22 (sp_cp s 62 0 n k g)) s)) := by
  intro n
  induction n with
  | zero =>
    intro f k g hk hf
    obtain ⟨f, rfl⟩ : ∃ g, f = g + 1 := ⟨f - 1, by omega⟩
    rw [fn_X5_tries_2, show (56 : Int32) = Int32.ofNat 56 from rfl, if_pos (by rw [px_le (by omega) (by omega)]; omega)]
    rfl
  | succ n ih =>
    intro f k g hk hf
    obtain ⟨f, rfl⟩ : ∃ g, f = g + 1 := ⟨f - 1, by omega⟩
    rw [fn_X5_tries_2, show (56 : Int32) = Int32.ofNat 56 from rfl, if_neg (by rw [px_le (by omega) (by omega)]; omega)]
    simp (disch := first | assumption | omega) only [qln, qsn, ql_0, ql_1, ql_2, ql_3, ql_4, ql_5, ql_6, ql_7, ql_62, qs_62, ql_63, qs_63, ql_64, qs_64, ql_117, qs_117, ql_118, qs_118, pl_h_0, ps_h_0, pl_h_1, ps_h_1, pl_h_2, ps_h_2, ps_h_4, ps_h_5, ps_h_6, pl_h_7, ps_h_7, ps_reserved_0, ps_reserved_1, ps_reserved_2, ps_reserved_3, ps_reserved_4, ps_reserved_5, ps_reserved_6, ps_reserved_7, ps_reserved_8, ps_reserved_9, ps_reserved_10, ps_reserved_11, ps_reserved_12, ps_reserved_13, ps_reserved_14, ps_reserved_15, ps_reserved_16, ps_reserved_17, ps_reserved_18, ps_reserved_19, ps_reserved_20, ps_reserved_21, ps_reserved_22, ps_reserved_23, pl_toldAt_0, ps_toldAt_0, pl_toldAt_1, ps_toldAt_1, ps_toldAt_2, ps_toldAt_3, pl_truths_0, px_c8, px_c10, px_c16, px_c20, px_c22, px_c30, px_c36, px_c38, px_c46, px_c54, px_c62, px_c65, px_c73, px_c81, px_c89, px_c97, px_c103, px_c109, px_c119, pr_tape, pln_tape, psn_tape, pr_s, pr_h, pln_h, psn_h, pr_read, pln_read, psn_read, pr_names, pln_names, psn_names, pr_reserved, pln_reserved, psn_reserved, pr_undone, pln_undone, psn_undone, pr_before, pln_before, psn_before, pr_sat, pln_sat, psn_sat, pr_toldAt, pln_toldAt, psn_toldAt, pr_stack, pln_stack, psn_stack, pr_truths, pln_truths, psn_truths, pr_kept, pln_kept, psn_kept, pr_namesKept, pln_namesKept, psn_namesKept, pr_areKept, pln_areKept, psn_areKept, px_c1r, px_rc, px_cI, px_cR, px_cV, px_ckz, px_ckz0, px_ckz1, px_getJ, px_putJ, cz_leti, cz_jn, pg_thrown, pp_thrown, pg_length, pp_length, pg_size, pp_size, pg_p, pp_p, pg_limit, pp_limit, pg_token, pp_token, pg_at, pp_at, pg_span, pp_span, pg_number, pp_number, pg_fault, pp_fault, pg_faultAt, pp_faultAt, pg_got, pp_got, pg_lines, pp_lines, pg_onces, pp_onces, pg_undoMany, pp_undoMany, pg_laidSet, pp_laidSet, pg_hasLaid, pp_hasLaid, pg_turnSet, pp_turnSet, pg_hasTurns, pp_hasTurns, pg_frostDay, pp_frostDay, pg_surelySet, pp_surelySet, pg_neverSet, pp_neverSet, pg_hasHooks, pp_hasHooks, pg_priceNow, pp_priceNow, pg_hasPrice, pp_hasPrice, pg_seed, pp_seed, pg_toldMany, pp_toldMany, pg_hasTold, pp_hasTold, pg_codes, pp_codes, pg_ones, pp_ones, pg_top, pp_top, pg_deep, pp_deep, pg_isWhole, pp_isWhole, px_SAne, px_SL, px_SI, px_SW, px_S1, px_S2, px_S4, px_S3, px_AB]
    rw [ih f (k + 1) _ (by omega) (by omega)]
    have e : sp_cp s 62 0 (n + 1) k g = sp_cp s 62 0 n (k + 1) (upd g (0 + k) (s (62 + k))) := rfl
    rw [e, Nat.zero_add]
theorem pm_tries (hb : h.1.1 ≤ m) : fn_X5_tries (some m) (px_set h m (px_S M s)) = some (.inl none, px_set h m (px_S (px_B M 22 (sp_cp s 62 0 56 0 (M.2.2.1 22))) s)) := by
  rw [fn_X5_tries]
  have e := pm_tries_2 (h := h) (m := m) (M := M) (s := s) (k0 := fun (h6 : cz_H) => some (.inl none, h6)) hb 56 1000 0 (M.2.2.1 22) rfl (by omega)
  rw [px_Bid] at e
  exact e
theorem pm_back_2 {k0 : cz_H → cz_Z} (hb : h.1.1 ≤ m) : ∀ (n f k : Nat) (s : Nat → Int32), k + n = 56 → n < f → fn_X5_back_2 (some m) k0 f (Int32.ofNat k) (px_set h m (px_S M s)) = k0 (px_set h m (px_S M (sp_cp (M.2.2.1 22) 0 62 n k s))) := by
  intro n
  induction n with
  | zero =>
    intro f k s hk hf
    obtain ⟨f, rfl⟩ : ∃ g, f = g + 1 := ⟨f - 1, by omega⟩
    rw [fn_X5_back_2, show (56 : Int32) = Int32.ofNat 56 from rfl, if_pos (by rw [px_le (by omega) (by omega)]; omega)]
    rfl
  | succ n ih =>
    intro f k s hk hf
    obtain ⟨f, rfl⟩ : ∃ g, f = g + 1 := ⟨f - 1, by omega⟩
    rw [fn_X5_back_2, show (56 : Int32) = Int32.ofNat 56 from rfl, if_neg (by rw [px_le (by omega) (by omega)]; omega)]
    simp (disch := first | assumption | omega) only [qln, qsn, ql_0, ql_1, ql_2, ql_3, ql_4, ql_5, ql_6, ql_7, ql_62, qs_62, ql_63, qs_63, ql_64, qs_64, ql_117, qs_117, ql_118, qs_118, pl_h_0, ps_h_0, pl_h_1, ps_h_1, pl_h_2, ps_h_2, ps_h_4, ps_h_5, ps_h_6, pl_h_7, ps_h_7, ps_reserved_0, ps_reserved_1, ps_reserved_2, ps_reserved_3, ps_reserved_4, ps_reserved_5, ps_reserved_6, ps_reserved_7, ps_reserved_8, ps_reserved_9, ps_reserved_10, ps_reserved_11, ps_reserved_12, ps_reserved_13, ps_reserved_14, ps_reserved_15, ps_reserved_16, ps_reserved_17, ps_reserved_18, ps_reserved_19, ps_reserved_20, ps_reserved_21, ps_reserved_22, ps_reserved_23, pl_toldAt_0, ps_toldAt_0, pl_toldAt_1, ps_toldAt_1, ps_toldAt_2, ps_toldAt_3, pl_truths_0, px_c8, px_c10, px_c16, px_c20, px_c22, px_c30, px_c36, px_c38, px_c46, px_c54, px_c62, px_c65, px_c73, px_c81, px_c89, px_c97, px_c103, px_c109, px_c119, pr_tape, pln_tape, psn_tape, pr_s, pr_h, pln_h, psn_h, pr_read, pln_read, psn_read, pr_names, pln_names, psn_names, pr_reserved, pln_reserved, psn_reserved, pr_undone, pln_undone, psn_undone, pr_before, pln_before, psn_before, pr_sat, pln_sat, psn_sat, pr_toldAt, pln_toldAt, psn_toldAt, pr_stack, pln_stack, psn_stack, pr_truths, pln_truths, psn_truths, pr_kept, pln_kept, psn_kept, pr_namesKept, pln_namesKept, psn_namesKept, pr_areKept, pln_areKept, psn_areKept, px_c1r, px_rc, px_cI, px_cR, px_cV, px_ckz, px_ckz0, px_ckz1, px_getJ, px_putJ, cz_leti, cz_jn, pg_thrown, pp_thrown, pg_length, pp_length, pg_size, pp_size, pg_p, pp_p, pg_limit, pp_limit, pg_token, pp_token, pg_at, pp_at, pg_span, pp_span, pg_number, pp_number, pg_fault, pp_fault, pg_faultAt, pp_faultAt, pg_got, pp_got, pg_lines, pp_lines, pg_onces, pp_onces, pg_undoMany, pp_undoMany, pg_laidSet, pp_laidSet, pg_hasLaid, pp_hasLaid, pg_turnSet, pp_turnSet, pg_hasTurns, pp_hasTurns, pg_frostDay, pp_frostDay, pg_surelySet, pp_surelySet, pg_neverSet, pp_neverSet, pg_hasHooks, pp_hasHooks, pg_priceNow, pp_priceNow, pg_hasPrice, pp_hasPrice, pg_seed, pp_seed, pg_toldMany, pp_toldMany, pg_hasTold, pp_hasTold, pg_codes, pp_codes, pg_ones, pp_ones, pg_top, pp_top, pg_deep, pp_deep, pg_isWhole, pp_isWhole, px_SAne, px_SL, px_SI, px_SW, px_S1, px_S2, px_S4, px_S3]
    rw [ih f (k + 1) _ (by omega) (by omega)]
    have e : sp_cp (M.2.2.1 22) 0 62 (n + 1) k s = sp_cp (M.2.2.1 22) 0 62 n (k + 1) (upd s (62 + k) (M.2.2.1 22 (0 + k))) := rfl
    rw [e, Nat.zero_add]
theorem pm_back (hb : h.1.1 ≤ m) : fn_X5_back (some m) (px_set h m (px_S M s)) = some (.inl none, px_set h m (px_S M (sp_cp (M.2.2.1 22) 0 62 56 0 s))) := by
  rw [fn_X5_back]
  exact pm_back_2 hb 56 1000 0 s rfl (by omega)
end SPD
