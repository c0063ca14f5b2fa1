/-! THE PLAIN LAW, 5: a day -/
set_option maxRecDepth 100000
theorem sp_fold_ind {α : Type} {f : Nat → α → α} (P : α → Prop) : ∀ (n k : Nat) (a : α), P a → (∀ j b, k ≤ j → j < k + n → P b → P (f j b)) → P (sp_fold f n k a) := by
  intro n
  induction n with
  | zero => intro k a h _; exact h
  | succ n ih =>
    intro k a h hf
    exact ih (k + 1) (f k a) (hf k a (Nat.le_refl _) (by omega) h) (fun j b h1 h2 hb => hf j b (by omega) (by omega) hb)
theorem sp_rulerBy_is (s : Nat → Int32) : sp_rulerBy s = -1 ∨ ∃ k, k < sp_n s 1 ∧ sp_rulerBy s = Int32.ofNat k := by
  unfold sp_rulerBy
  refine sp_fold_ind (fun a : Int32 × Int32 => a.1 = -1 ∨ ∃ k, k < sp_n s 1 ∧ a.1 = Int32.ofNat k) _ _ _ (Or.inl rfl) ?_
  intro j b _ h2 hb
  split
  · exact Or.inr ⟨j, by omega, rfl⟩
  · exact hb
theorem sp_ruler_is (s : Nat → Int32) : sp_ruler s = -1 ∨ ∃ k, k < sp_n s 1 ∧ sp_ruler s = Int32.ofNat k := by
  unfold sp_ruler
  split
  · exact Or.inl rfl
  · exact sp_rulerBy_is s
noncomputable def sp_noon (s : Nat → Int32) : Nat → Int32 := if sp_ruler s < 0 then (if s 64 = 0 then upd (upd s 63 (s 63 + 1)) 64 (s 62 + 1) else upd s 63 (s 63 + 1)) else upd s (103 + (sp_ruler s).toNatClampNeg) (s (103 + (sp_ruler s).toNatClampNeg) + 1)
noncomputable def sp_harms : Nat → Nat → (Nat → Int32) → Nat → Int32 := sp_fold (fun k s => upd s (97 + k) (s (97 + k) + sp_chill s k * sp_chill s k))
def sp_lies : Nat → Nat → (Nat → Int32) → Nat → Int32 := sp_fold (fun k s => if 10 ≤ s (65 + k) ∧ s (65 + k) ≤ 17 then sp_lying s k else s)
noncomputable def sp_day3 (s : Nat → Int32) : Nat → Int32 := sp_lies (sp_n s 2) 0 (sp_harms (sp_n s 1) 0 (sp_noon s))
noncomputable def sp_day (s : Nat → Int32) : Nat → Int32 := upd (sp_day3 s) 62 (sp_day3 s 62 + 1)
/-- what holds all along: how many there are, and the queue -/
def sp_oq (s : Nat → Int32) : Prop := sp_ok s ∧ ∃ Q, sp_Q s Q
/-- nothing but harm, rule, days: the numbers from 8 to 61 and the counts stay -/
def sp_same (s t : Nat → Int32) : Prop := ∀ q, q < 62 → t q = s q
theorem sp_same.rf {s : Nat → Int32} : sp_same s s := fun _ _ => rfl
theorem sp_same.tr {s t u : Nat → Int32} (h : sp_same s t) (k : sp_same t u) : sp_same s u := fun q hq => (k q hq).trans (h q hq)
theorem sp_same.n {s t : Nat → Int32} (h : sp_same s t) {q : Nat} (hq : q < 62) : sp_n t q = sp_n s q := by unfold sp_n; rw [h q hq]
theorem sp_same.ok {s t : Nat → Int32} (h : sp_same s t) (ok : sp_ok s) : sp_ok t := by
  unfold sp_ok sp_n at *
  rw [h 0 (by omega), h 1 (by omega), h 2 (by omega), h 7 (by omega)]
  exact ok
theorem sp_same_upd {s : Nat → Int32} {j : Nat} {v : Int32} (hj : 62 ≤ j) : sp_same s (upd s j v) := fun q hq => px_une (by omega)
theorem sp_keeps_same {s : Nat → Int32} {c : Nat} : sp_same s (sp_keeps s c) := ((sp_same_upd (by omega)).tr (sp_same_upd (by omega))).tr (sp_same_upd (by omega))
theorem sp_lying0_same {s : Nat → Int32} {c : Nat} : sp_same s (sp_lying0 s c) := (sp_same_upd (by omega)).tr (sp_same_upd (by omega))
theorem sp_lying_same {s : Nat → Int32} {c : Nat} : sp_same s (sp_lying s c) := by
  unfold sp_lying
  split
  · exact sp_lying0_same.tr (sp_same_upd (by omega))
  · split
    · exact sp_lying0_same.tr sp_keeps_same
    · exact sp_lying0_same
theorem sp_lying0_Q {s : Nat → Int32} {Q : List Nat} {c : Nat} (h : sp_Q s Q) (ok : sp_ok s) (hc : c < sp_n s 2) : sp_Q (sp_lying0 s c) Q := by
  have h8 := ok.2.2.1.2
  exact sp_Qupd (sp_Qupd h ok (by omega) (by omega) (by omega)) (sp_ok_upd ok (by omega)) (by omega) (by omega) (by omega)
theorem sp_lying_oq {s : Nat → Int32} {c : Nat} (h : sp_oq s) (hc : c < sp_n s 2) (hn : s (65 + c) ≠ 20) : sp_oq (sp_lying s c) := by
  obtain ⟨ok, Q, hQ⟩ := h
  have h8 := ok.2.2.1.2
  refine ⟨sp_lying_same.ok ok, ?_⟩
  have h0 := sp_lying0_Q hQ ok hc
  have ok0 : sp_ok (sp_lying0 s c) := sp_lying0_same.ok ok
  have hc0 : c < sp_n (sp_lying0 s c) 2 := by rw [sp_lying0_same.n (by omega)]; exact hc
  have hn0 : sp_lying0 s c (65 + c) ≠ 20 := by
    unfold sp_lying0
    rw [px_une (by omega), px_une (by omega)]
    exact hn
  unfold sp_lying
  split
  · exact ⟨Q, sp_Qat h0 ok0 hc0 hn0 (by decide)⟩
  · split
    · exact ⟨_, sp_Qkeeps h0 ok0 hc0 hn0⟩
    · exact ⟨Q, h0⟩
theorem sp_noon_same {s : Nat → Int32} : sp_same s (sp_noon s) := by
  unfold sp_noon
  split
  · split
    · exact (sp_same_upd (by omega)).tr (sp_same_upd (by omega))
    · exact sp_same_upd (by omega)
  · exact sp_same_upd (by omega)
theorem sp_ruler_lt {s : Nat → Int32} (ok : sp_ok s) : (sp_ruler s).toNatClampNeg < 6 := by
  have h6 := ok.2.1.2
  rcases sp_ruler_is s with e | ⟨k, hk, e⟩
  · rw [e]; decide
  · rw [e, Int32.toNatClampNeg_ofNat_of_lt (show k < 2 ^ 31 by omega)]; omega
theorem sp_noon_oq {s : Nat → Int32} (h : sp_oq s) : sp_oq (sp_noon s) := by
  obtain ⟨ok, Q, hQ⟩ := h
  refine ⟨sp_noon_same.ok ok, Q, ?_⟩
  have hr := sp_ruler_lt ok
  unfold sp_noon
  split
  · split
    · exact sp_Qupd (sp_Qupd hQ ok (by omega) (by omega) (by omega)) (sp_ok_upd ok (by omega)) (by omega) (by omega) (by omega)
    · exact sp_Qupd hQ ok (by omega) (by omega) (by omega)
  · exact sp_Qupd hQ ok (by omega) (by omega) (by omega)
theorem px_neg {k : Nat} (hk : k < 2147483648) : ¬ Int32.ofNat k < 0 := Int32.not_lt.mpr (px_nn k hk)
section SPC
variable {h : cz_H} {m : Nat} {M : px_M} {s : Nat → Int32}
theorem pm_day_64 {k0 : cz_H → cz_Z} {N : Nat} (hb : h.1.1 ≤ m) (hN : N ≤ 6) : ∀ (n f k : Nat) (s : Nat → Int32), sp_oq s → sp_n s 1 = N → k + n = N → n < f → fn_X5_day_64 (some m) k0 f (Int32.ofNat k) (px_set h m (px_S M s)) = k0 (px_set h m (px_S M (sp_harms n k s))) := by
  intro n
  induction n with
  | zero =>
    intro f k s oq hs hk hf
    obtain ⟨f, rfl⟩ : ∃ g, f = g + 1 := ⟨f - 1, by omega⟩
    rw [fn_X5_day_64]
    simp (disch := first | assumption | omega) only [qln, qsn, ql_0, ql_1, ql_2, ql_3, ql_4, ql_5, ql_6, ql_7, ql_62, qs_62, ql_63, qs_63, ql_64, qs_64, ql_117, qs_117, ql_118, qs_118, pl_h_0, ps_h_0, pl_h_1, ps_h_1, pl_h_2, ps_h_2, ps_h_4, ps_h_5, ps_h_6, pl_h_7, ps_h_7, ps_reserved_0, ps_reserved_1, ps_reserved_2, ps_reserved_3, ps_reserved_4, ps_reserved_5, ps_reserved_6, ps_reserved_7, ps_reserved_8, ps_reserved_9, ps_reserved_10, ps_reserved_11, ps_reserved_12, ps_reserved_13, ps_reserved_14, ps_reserved_15, ps_reserved_16, ps_reserved_17, ps_reserved_18, ps_reserved_19, ps_reserved_20, ps_reserved_21, ps_reserved_22, ps_reserved_23, pl_toldAt_0, ps_toldAt_0, pl_toldAt_1, ps_toldAt_1, ps_toldAt_2, ps_toldAt_3, pl_truths_0, px_c8, px_c10, px_c16, px_c20, px_c22, px_c30, px_c36, px_c38, px_c46, px_c54, px_c62, px_c65, px_c73, px_c81, px_c89, px_c97, px_c103, px_c109, px_c119, pr_tape, pln_tape, psn_tape, pr_s, pr_h, pln_h, psn_h, pr_read, pln_read, psn_read, pr_names, pln_names, psn_names, pr_reserved, pln_reserved, psn_reserved, pr_undone, pln_undone, psn_undone, pr_before, pln_before, psn_before, pr_sat, pln_sat, psn_sat, pr_toldAt, pln_toldAt, psn_toldAt, pr_stack, pln_stack, psn_stack, pr_truths, pln_truths, psn_truths, pr_kept, pln_kept, psn_kept, pr_namesKept, pln_namesKept, psn_namesKept, pr_areKept, pln_areKept, psn_areKept, px_c1r, px_rc, px_cI, px_cR, px_cV, px_ckz, px_ckz0, px_ckz1, px_getJ, px_putJ, cz_leti, cz_jn, pg_thrown, pp_thrown, pg_length, pp_length, pg_size, pp_size, pg_p, pp_p, pg_limit, pp_limit, pg_token, pp_token, pg_at, pp_at, pg_span, pp_span, pg_number, pp_number, pg_fault, pp_fault, pg_faultAt, pp_faultAt, pg_got, pp_got, pg_lines, pp_lines, pg_onces, pp_onces, pg_undoMany, pp_undoMany, pg_laidSet, pp_laidSet, pg_hasLaid, pp_hasLaid, pg_turnSet, pp_turnSet, pg_hasTurns, pp_hasTurns, pg_frostDay, pp_frostDay, pg_surelySet, pp_surelySet, pg_neverSet, pp_neverSet, pg_hasHooks, pp_hasHooks, pg_priceNow, pp_priceNow, pg_hasPrice, pp_hasPrice, pg_seed, pp_seed, pg_toldMany, pp_toldMany, pg_hasTold, pp_hasTold, pg_codes, pp_codes, pg_ones, pp_ones, pg_top, pp_top, pg_deep, pp_deep, pg_isWhole, pp_isWhole, px_SAne, px_SL, px_SI, px_SW, px_S1, px_S2, px_S4, px_S3]
    rw [oq.1.2.1.1, hs, if_pos (by rw [px_le (by omega) (by omega)]; omega)]
    rfl
  | succ n ih =>
    intro f k s oq hs hk hf
    obtain ⟨f, rfl⟩ : ∃ g, f = g + 1 := ⟨f - 1, by omega⟩
    rw [fn_X5_day_64]
    have ch := pm_chill (h := h) (m := m) (M := M) (k := k) oq.1 (by omega)
    simp (disch := first | assumption | omega) only [qln, qsn, ql_0, ql_1, ql_2, ql_3, ql_4, ql_5, ql_6, ql_7, ql_62, qs_62, ql_63, qs_63, ql_64, qs_64, ql_117, qs_117, ql_118, qs_118, pl_h_0, ps_h_0, pl_h_1, ps_h_1, pl_h_2, ps_h_2, ps_h_4, ps_h_5, ps_h_6, pl_h_7, ps_h_7, ps_reserved_0, ps_reserved_1, ps_reserved_2, ps_reserved_3, ps_reserved_4, ps_reserved_5, ps_reserved_6, ps_reserved_7, ps_reserved_8, ps_reserved_9, ps_reserved_10, ps_reserved_11, ps_reserved_12, ps_reserved_13, ps_reserved_14, ps_reserved_15, ps_reserved_16, ps_reserved_17, ps_reserved_18, ps_reserved_19, ps_reserved_20, ps_reserved_21, ps_reserved_22, ps_reserved_23, pl_toldAt_0, ps_toldAt_0, pl_toldAt_1, ps_toldAt_1, ps_toldAt_2, ps_toldAt_3, pl_truths_0, px_c8, px_c10, px_c16, px_c20, px_c22, px_c30, px_c36, px_c38, px_c46, px_c54, px_c62, px_c65, px_c73, px_c81, px_c89, px_c97, px_c103, px_c109, px_c119, pr_tape, pln_tape, psn_tape, pr_s, pr_h, pln_h, psn_h, pr_read, pln_read, psn_read, pr_names, pln_names, psn_names, pr_reserved, pln_reserved, psn_reserved, pr_undone, pln_undone, psn_undone, pr_before, pln_before, psn_before, pr_sat, pln_sat, psn_sat, pr_toldAt, pln_toldAt, psn_toldAt, pr_stack, pln_stack, psn_stack, pr_truths, pln_truths, psn_truths, pr_kept, pln_kept, psn_kept, pr_namesKept, pln_namesKept, psn_namesKept, pr_areKept, pln_areKept, psn_areKept, px_c1r, px_rc, px_cI, px_cR, px_cV, px_ckz, px_ckz0, px_ckz1, px_getJ, px_putJ, cz_leti, cz_jn, pg_thrown, pp_thrown, pg_length, pp_length, pg_size, pp_size, pg_p, pp_p, pg_limit, pp_limit, pg_token, pp_token, pg_at, pp_at, pg_span, pp_span, pg_number, pp_number, pg_fault, pp_fault, pg_faultAt, pp_faultAt, pg_got, pp_got, pg_lines, pp_lines, pg_onces, pp_onces, pg_undoMany, pp_undoMany, pg_laidSet, pp_laidSet, pg_hasLaid, pp_hasLaid, pg_turnSet, pp_turnSet, pg_hasTurns, pp_hasTurns, pg_frostDay, pp_frostDay, pg_surelySet, pp_surelySet, pg_neverSet, pp_neverSet, pg_hasHooks, pp_hasHooks, pg_priceNow, pp_priceNow, pg_hasPrice, pp_hasPrice, pg_seed, pp_seed, pg_toldMany, pp_toldMany, pg_hasTold, pp_hasTold, pg_codes, pp_codes, pg_ones, pp_ones, pg_top, pp_top, pg_deep, pp_deep, pg_isWhole, pp_isWhole, px_SAne, px_SL, px_SI, px_SW, px_S1, px_S2, px_S4, px_S3, ch]
    rw [oq.1.2.1.1, hs, if_neg (by rw [px_le (by omega) (by omega)]; omega)]
    obtain ⟨Q, hQ⟩ := oq.2
    exact ih f (k + 1) _ ⟨sp_ok_upd oq.1 (by omega), Q, sp_Qupd hQ oq.1 (by omega) (by omega) (by omega)⟩ (by rw [sp_n_upd (by omega)]; exact hs) (by omega) (by omega)
theorem pm_day_105 {k0 : cz_H → cz_Z} {N : Nat} (hb : h.1.1 ≤ m) (hN : N ≤ 8) : ∀ (n f k : Nat) (s : Nat → Int32), sp_oq s → sp_n s 2 = N → k + n = N → n < f → fn_X5_day_105 (some m) k0 f (Int32.ofNat k) (px_set h m (px_S M s)) = k0 (px_set h m (px_S M (sp_lies n k s))) := by
  intro n
  induction n with
  | zero =>
    intro f k s oq hs hk hf
    obtain ⟨f, rfl⟩ : ∃ g, f = g + 1 := ⟨f - 1, by omega⟩
    rw [fn_X5_day_105]
    simp (disch := first | assumption | omega) only [qln, qsn, ql_0, ql_1, ql_2, ql_3, ql_4, ql_5, ql_6, ql_7, ql_62, qs_62, ql_63, qs_63, ql_64, qs_64, ql_117, qs_117, ql_118, qs_118, pl_h_0, ps_h_0, pl_h_1, ps_h_1, pl_h_2, ps_h_2, ps_h_4, ps_h_5, ps_h_6, pl_h_7, ps_h_7, ps_reserved_0, ps_reserved_1, ps_reserved_2, ps_reserved_3, ps_reserved_4, ps_reserved_5, ps_reserved_6, ps_reserved_7, ps_reserved_8, ps_reserved_9, ps_reserved_10, ps_reserved_11, ps_reserved_12, ps_reserved_13, ps_reserved_14, ps_reserved_15, ps_reserved_16, ps_reserved_17, ps_reserved_18, ps_reserved_19, ps_reserved_20, ps_reserved_21, ps_reserved_22, ps_reserved_23, pl_toldAt_0, ps_toldAt_0, pl_toldAt_1, ps_toldAt_1, ps_toldAt_2, ps_toldAt_3, pl_truths_0, px_c8, px_c10, px_c16, px_c20, px_c22, px_c30, px_c36, px_c38, px_c46, px_c54, px_c62, px_c65, px_c73, px_c81, px_c89, px_c97, px_c103, px_c109, px_c119, pr_tape, pln_tape, psn_tape, pr_s, pr_h, pln_h, psn_h, pr_read, pln_read, psn_read, pr_names, pln_names, psn_names, pr_reserved, pln_reserved, psn_reserved, pr_undone, pln_undone, psn_undone, pr_before, pln_before, psn_before, pr_sat, pln_sat, psn_sat, pr_toldAt, pln_toldAt, psn_toldAt, pr_stack, pln_stack, psn_stack, pr_truths, pln_truths, psn_truths, pr_kept, pln_kept, psn_kept, pr_namesKept, pln_namesKept, psn_namesKept, pr_areKept, pln_areKept, psn_areKept, px_c1r, px_rc, px_cI, px_cR, px_cV, px_ckz, px_ckz0, px_ckz1, px_getJ, px_putJ, cz_leti, cz_jn, pg_thrown, pp_thrown, pg_length, pp_length, pg_size, pp_size, pg_p, pp_p, pg_limit, pp_limit, pg_token, pp_token, pg_at, pp_at, pg_span, pp_span, pg_number, pp_number, pg_fault, pp_fault, pg_faultAt, pp_faultAt, pg_got, pp_got, pg_lines, pp_lines, pg_onces, pp_onces, pg_undoMany, pp_undoMany, pg_laidSet, pp_laidSet, pg_hasLaid, pp_hasLaid, pg_turnSet, pp_turnSet, pg_hasTurns, pp_hasTurns, pg_frostDay, pp_frostDay, pg_surelySet, pp_surelySet, pg_neverSet, pp_neverSet, pg_hasHooks, pp_hasHooks, pg_priceNow, pp_priceNow, pg_hasPrice, pp_hasPrice, pg_seed, pp_seed, pg_toldMany, pp_toldMany, pg_hasTold, pp_hasTold, pg_codes, pp_codes, pg_ones, pp_ones, pg_top, pp_top, pg_deep, pp_deep, pg_isWhole, pp_isWhole, px_SAne, px_SL, px_SI, px_SW, px_S1, px_S2, px_S4, px_S3]
    rw [oq.1.2.2.1.1, hs, if_pos (by rw [px_le (by omega) (by omega)]; omega)]
    rfl
  | succ n ih =>
    intro f k s oq hs hk hf
    obtain ⟨f, rfl⟩ : ∃ g, f = g + 1 := ⟨f - 1, by omega⟩
    rw [fn_X5_day_105]
    simp (disch := first | assumption | omega) only [qln, qsn, ql_0, ql_1, ql_2, ql_3, ql_4, ql_5, ql_6, ql_7, ql_62, qs_62, ql_63, qs_63, ql_64, qs_64, ql_117, qs_117, ql_118, qs_118, pl_h_0, ps_h_0, pl_h_1, ps_h_1, pl_h_2, ps_h_2, ps_h_4, ps_h_5, ps_h_6, pl_h_7, ps_h_7, ps_reserved_0, ps_reserved_1, ps_reserved_2, ps_reserved_3, ps_reserved_4, ps_reserved_5, ps_reserved_6, ps_reserved_7, ps_reserved_8, ps_reserved_9, ps_reserved_10, ps_reserved_11, ps_reserved_12, ps_reserved_13, ps_reserved_14, ps_reserved_15, ps_reserved_16, ps_reserved_17, ps_reserved_18, ps_reserved_19, ps_reserved_20, ps_reserved_21, ps_reserved_22, ps_reserved_23, pl_toldAt_0, ps_toldAt_0, pl_toldAt_1, ps_toldAt_1, ps_toldAt_2, ps_toldAt_3, pl_truths_0, px_c8, px_c10, px_c16, px_c20, px_c22, px_c30, px_c36, px_c38, px_c46, px_c54, px_c62, px_c65, px_c73, px_c81, px_c89, px_c97, px_c103, px_c109, px_c119, pr_tape, pln_tape, psn_tape, pr_s, pr_h, pln_h, psn_h, pr_read, pln_read, psn_read, pr_names, pln_names, psn_names, pr_reserved, pln_reserved, psn_reserved, pr_undone, pln_undone, psn_undone, pr_before, pln_before, psn_before, pr_sat, pln_sat, psn_sat, pr_toldAt, pln_toldAt, psn_toldAt, pr_stack, pln_stack, psn_stack, pr_truths, pln_truths, psn_truths, pr_kept, pln_kept, psn_kept, pr_namesKept, pln_namesKept, psn_namesKept, pr_areKept, pln_areKept, psn_areKept, px_c1r, px_rc, px_cI, px_cR, px_cV, px_ckz, px_ckz0, px_ckz1, px_getJ, px_putJ, cz_leti, cz_jn, pg_thrown, pp_thrown, pg_length, pp_length, pg_size, pp_size, pg_p, pp_p, pg_limit, pp_limit, pg_token, pp_token, pg_at, pp_at, pg_span, pp_span, pg_number, pp_number, pg_fault, pp_fault, pg_faultAt, pp_faultAt, pg_got, pp_got, pg_lines, pp_lines, pg_onces, pp_onces, pg_undoMany, pp_undoMany, pg_laidSet, pp_laidSet, pg_hasLaid, pp_hasLaid, pg_turnSet, pp_turnSet, pg_hasTurns, pp_hasTurns, pg_frostDay, pp_frostDay, pg_surelySet, pp_surelySet, pg_neverSet, pp_neverSet, pg_hasHooks, pp_hasHooks, pg_priceNow, pp_priceNow, pg_hasPrice, pp_hasPrice, pg_seed, pp_seed, pg_toldMany, pp_toldMany, pg_hasTold, pp_hasTold, pg_codes, pp_codes, pg_ones, pp_ones, pg_top, pp_top, pg_deep, pp_deep, pg_isWhole, pp_isWhole, px_SAne, px_SL, px_SI, px_SW, px_S1, px_S2, px_S4, px_S3, pm_isIn, px_e0, ite_not]
    rw [oq.1.2.2.1.1, hs, if_neg (by rw [px_le (by omega) (by omega)]; omega)]
    have e : sp_lies (n + 1) k s = sp_lies n (k + 1) (if 10 ≤ s (65 + k) ∧ s (65 + k) ≤ 17 then sp_lying s k else s) := rfl
    rw [e]
    split
    · rename_i hi
      have hn : s (65 + k) ≠ 20 := fun e => by rw [e] at hi; exact absurd hi.2 (by decide)
      obtain ⟨Q, hQ⟩ := oq.2
      have ly := pm_lying (h := h) (m := m) (M := M) (s := s) (c := k) (q := Q.length) hb (by omega) hQ.2.2.1 (hQ.len7 oq.1 (by omega) hn)
      rw [ly]
      exact ih f (k + 1) _ (sp_lying_oq oq (by omega) hn) (by rw [sp_lying_same.n (by omega)]; exact hs) (by omega) (by omega)
    · exact ih f (k + 1) s oq hs (by omega) (by omega)
theorem sp_harms_oq {s : Nat → Int32} (n k : Nat) (hk : k + n ≤ 6) (h : sp_oq s) : sp_oq (sp_harms n k s) ∧ sp_same s (sp_harms n k s) := by
  refine sp_fold_ind (fun t => sp_oq t ∧ sp_same s t) n k s ⟨h, sp_same.rf⟩ ?_
  intro j b h1 h2 ⟨hb, hs⟩
  obtain ⟨ok, Q, hQ⟩ := hb
  exact ⟨⟨sp_ok_upd ok (by omega), Q, sp_Qupd hQ ok (by omega) (by omega) (by omega)⟩, hs.tr (sp_same_upd (by omega))⟩
theorem sp_lies_oq {s : Nat → Int32} (n k : Nat) (hk : k + n ≤ sp_n s 2) (h : sp_oq s) : sp_oq (sp_lies n k s) ∧ sp_same s (sp_lies n k s) := by
  refine sp_fold_ind (fun t => sp_oq t ∧ sp_same s t) n k s ⟨h, sp_same.rf⟩ ?_
  intro j b h1 h2 ⟨hb, hs⟩
  split
  · rename_i hi
    exact ⟨sp_lying_oq hb (by rw [hs.n (by omega)]; omega) (fun e => by rw [e] at hi; exact absurd hi.2 (by decide)), hs.tr sp_lying_same⟩
  · exact ⟨hb, hs⟩
theorem sp_day3_oq {s : Nat → Int32} (oq : sp_oq s) : sp_oq (sp_day3 s) ∧ sp_same s (sp_day3 s) := by
  have h6 := oq.1.2.1.2
  obtain ⟨a1, a2⟩ := sp_harms_oq (sp_n s 1) 0 (by omega) (sp_noon_oq oq)
  have a3 := sp_noon_same.tr a2
  obtain ⟨b1, b2⟩ := sp_lies_oq (sp_n s 2) 0 (by rw [a3.n (by omega)]; omega) a1
  exact ⟨b1, a3.tr b2⟩
theorem sp_day_oq {s : Nat → Int32} (oq : sp_oq s) : sp_oq (sp_day s) ∧ sp_same s (sp_day s) := by
  obtain ⟨⟨ok, Q, hQ⟩, a2⟩ := sp_day3_oq oq
  exact ⟨⟨sp_ok_upd ok (by omega), Q, sp_Qupd hQ ok (by omega) (by omega) (by omega)⟩, a2.tr (sp_same_upd (by omega))⟩
theorem pm_day (hb : h.1.1 ≤ m) (oq : sp_oq s) : fn_X5_day (some m) (px_set h m (px_S M s)) = some (.inl none, px_set h m (px_S M (sp_day s))) := by
  have h6 := oq.1.2.1.2
  have h8 := oq.1.2.2.1.2
  have rest : ∀ t, sp_oq t → sp_same s t → fn_X5_day_64 (some m) (fun (h33 : cz_H) => fn_X5_day_105 (some m) (fun (h49 : cz_H) => cz_getR h49 (some m) [(5, 6)] (fun r50 => cz_iald h49 r50 62 (fun x51 => cz_iast h49 r50 62 (x51 + 1) (fun h52 => some (.inl none, h52))))) 1000 0 h33) 1000 0 (px_set h m (px_S M t)) = some (.inl none, px_set h m (px_S M (upd (sp_lies (sp_n s 2) 0 (sp_harms (sp_n s 1) 0 t)) 62 (sp_lies (sp_n s 2) 0 (sp_harms (sp_n s 1) 0 t) 62 + 1)))) := by
    intro t ht hst
    have e1 := pm_day_64 (h := h) (m := m) (M := M) (k0 := fun (h33 : cz_H) => fn_X5_day_105 (some m) (fun (h49 : cz_H) => cz_getR h49 (some m) [(5, 6)] (fun r50 => cz_iald h49 r50 62 (fun x51 => cz_iast h49 r50 62 (x51 + 1) (fun h52 => some (.inl none, h52))))) 1000 0 h33) hb h6 (sp_n s 1) 1000 0 t ht (hst.n (by omega)) (Nat.zero_add _) (by omega)
    refine e1.trans ?_
    obtain ⟨a1, a2⟩ := sp_harms_oq (sp_n s 1) 0 (by omega) ht
    have e2 := pm_day_105 (h := h) (m := m) (M := M) (k0 := fun (h49 : cz_H) => cz_getR h49 (some m) [(5, 6)] (fun r50 => cz_iald h49 r50 62 (fun x51 => cz_iast h49 r50 62 (x51 + 1) (fun h52 => some (.inl none, h52))))) hb h8 (sp_n s 2) 1000 0 _ a1 ((hst.tr a2).n (by omega)) (Nat.zero_add _) (by omega)
    refine e2.trans ?_
    simp (disch := first | assumption | omega) only [qln, qsn, ql_0, ql_1, ql_2, ql_3, ql_4, ql_5, ql_6, ql_7, ql_62, qs_62, ql_63, qs_63, ql_64, qs_64, ql_117, qs_117, ql_118, qs_118, pl_h_0, ps_h_0, pl_h_1, ps_h_1, pl_h_2, ps_h_2, ps_h_4, ps_h_5, ps_h_6, pl_h_7, ps_h_7, ps_reserved_0, ps_reserved_1, ps_reserved_2, ps_reserved_3, ps_reserved_4, ps_reserved_5, ps_reserved_6, ps_reserved_7, ps_reserved_8, ps_reserved_9, ps_reserved_10, ps_reserved_11, ps_reserved_12, ps_reserved_13, ps_reserved_14, ps_reserved_15, ps_reserved_16, ps_reserved_17, ps_reserved_18, ps_reserved_19, ps_reserved_20, ps_reserved_21, ps_reserved_22, ps_reserved_23, pl_toldAt_0, ps_toldAt_0, pl_toldAt_1, ps_toldAt_1, ps_toldAt_2, ps_toldAt_3, pl_truths_0, px_c8, px_c10, px_c16, px_c20, px_c22, px_c30, px_c36, px_c38, px_c46, px_c54, px_c62, px_c65, px_c73, px_c81, px_c89, px_c97, px_c103, px_c109, px_c119, pr_tape, pln_tape, psn_tape, pr_s, pr_h, pln_h, psn_h, pr_read, pln_read, psn_read, pr_names, pln_names, psn_names, pr_reserved, pln_reserved, psn_reserved, pr_undone, pln_undone, psn_undone, pr_before, pln_before, psn_before, pr_sat, pln_sat, psn_sat, pr_toldAt, pln_toldAt, psn_toldAt, pr_stack, pln_stack, psn_stack, pr_truths, pln_truths, psn_truths, pr_kept, pln_kept, psn_kept, pr_namesKept, pln_namesKept, psn_namesKept, pr_areKept, pln_areKept, psn_areKept, px_c1r, px_rc, px_cI, px_cR, px_cV, px_ckz, px_ckz0, px_ckz1, px_getJ, px_putJ, cz_leti, cz_jn, pg_thrown, pp_thrown, pg_length, pp_length, pg_size, pp_size, pg_p, pp_p, pg_limit, pp_limit, pg_token, pp_token, pg_at, pp_at, pg_span, pp_span, pg_number, pp_number, pg_fault, pp_fault, pg_faultAt, pp_faultAt, pg_got, pp_got, pg_lines, pp_lines, pg_onces, pp_onces, pg_undoMany, pp_undoMany, pg_laidSet, pp_laidSet, pg_hasLaid, pp_hasLaid, pg_turnSet, pp_turnSet, pg_hasTurns, pp_hasTurns, pg_frostDay, pp_frostDay, pg_surelySet, pp_surelySet, pg_neverSet, pp_neverSet, pg_hasHooks, pp_hasHooks, pg_priceNow, pp_priceNow, pg_hasPrice, pp_hasPrice, pg_seed, pp_seed, pg_toldMany, pp_toldMany, pg_hasTold, pp_hasTold, pg_codes, pp_codes, pg_ones, pp_ones, pg_top, pp_top, pg_deep, pp_deep, pg_isWhole, pp_isWhole, px_SAne, px_SL, px_SI, px_SW, px_S1, px_S2, px_S4, px_S3]
  rw [fn_X5_day]
  simp (disch := first | assumption | omega) only [qln, qsn, ql_0, ql_1, ql_2, ql_3, ql_4, ql_5, ql_6, ql_7, ql_62, qs_62, ql_63, qs_63, ql_64, qs_64, ql_117, qs_117, ql_118, qs_118, pl_h_0, ps_h_0, pl_h_1, ps_h_1, pl_h_2, ps_h_2, ps_h_4, ps_h_5, ps_h_6, pl_h_7, ps_h_7, ps_reserved_0, ps_reserved_1, ps_reserved_2, ps_reserved_3, ps_reserved_4, ps_reserved_5, ps_reserved_6, ps_reserved_7, ps_reserved_8, ps_reserved_9, ps_reserved_10, ps_reserved_11, ps_reserved_12, ps_reserved_13, ps_reserved_14, ps_reserved_15, ps_reserved_16, ps_reserved_17, ps_reserved_18, ps_reserved_19, ps_reserved_20, ps_reserved_21, ps_reserved_22, ps_reserved_23, pl_toldAt_0, ps_toldAt_0, pl_toldAt_1, ps_toldAt_1, ps_toldAt_2, ps_toldAt_3, pl_truths_0, px_c8, px_c10, px_c16, px_c20, px_c22, px_c30, px_c36, px_c38, px_c46, px_c54, px_c62, px_c65, px_c73, px_c81, px_c89, px_c97, px_c103, px_c109, px_c119, pr_tape, pln_tape, psn_tape, pr_s, pr_h, pln_h, psn_h, pr_read, pln_read, psn_read, pr_names, pln_names, psn_names, pr_reserved, pln_reserved, psn_reserved, pr_undone, pln_undone, psn_undone, pr_before, pln_before, psn_before, pr_sat, pln_sat, psn_sat, pr_toldAt, pln_toldAt, psn_toldAt, pr_stack, pln_stack, psn_stack, pr_truths, pln_truths, psn_truths, pr_kept, pln_kept, psn_kept, pr_namesKept, pln_namesKept, psn_namesKept, pr_areKept, pln_areKept, psn_areKept, px_c1r, px_rc, px_cI, px_cR, px_cV, px_ckz, px_ckz0, px_ckz1, px_getJ, px_putJ, cz_leti, cz_jn, pg_thrown, pp_thrown, pg_length, pp_length, pg_size, pp_size, pg_p, pp_p, pg_limit, pp_limit, pg_token, pp_token, pg_at, pp_at, pg_span, pp_span, pg_number, pp_number, pg_fault, pp_fault, pg_faultAt, pp_faultAt, pg_got, pp_got, pg_lines, pp_lines, pg_onces, pp_onces, pg_undoMany, pp_undoMany, pg_laidSet, pp_laidSet, pg_hasLaid, pp_hasLaid, pg_turnSet, pp_turnSet, pg_hasTurns, pp_hasTurns, pg_frostDay, pp_frostDay, pg_surelySet, pp_surelySet, pg_neverSet, pp_neverSet, pg_hasHooks, pp_hasHooks, pg_priceNow, pp_priceNow, pg_hasPrice, pp_hasPrice, pg_seed, pp_seed, pg_toldMany, pp_toldMany, pg_hasTold, pp_hasTold, pg_codes, pp_codes, pg_ones, pp_ones, pg_top, pp_top, pg_deep, pp_deep, pg_isWhole, pp_isWhole, px_SAne, px_SL, px_SI, px_SW, px_S1, px_S2, px_S4, px_S3, pm_ruler oq.1]
  have hno := sp_noon_oq oq
  have hns := sp_noon_same (s := s)
  unfold sp_day sp_day3
  rcases sp_ruler_is s with e | ⟨k, hk, e⟩
  · rw [e, if_pos (by decide)]
    simp (disch := first | assumption | omega) only [qln, qsn, ql_0, ql_1, ql_2, ql_3, ql_4, ql_5, ql_6, ql_7, ql_62, qs_62, ql_63, qs_63, ql_64, qs_64, ql_117, qs_117, ql_118, qs_118, pl_h_0, ps_h_0, pl_h_1, ps_h_1, pl_h_2, ps_h_2, ps_h_4, ps_h_5, ps_h_6, pl_h_7, ps_h_7, ps_reserved_0, ps_reserved_1, ps_reserved_2, ps_reserved_3, ps_reserved_4, ps_reserved_5, ps_reserved_6, ps_reserved_7, ps_reserved_8, ps_reserved_9, ps_reserved_10, ps_reserved_11, ps_reserved_12, ps_reserved_13, ps_reserved_14, ps_reserved_15, ps_reserved_16, ps_reserved_17, ps_reserved_18, ps_reserved_19, ps_reserved_20, ps_reserved_21, ps_reserved_22, ps_reserved_23, pl_toldAt_0, ps_toldAt_0, pl_toldAt_1, ps_toldAt_1, ps_toldAt_2, ps_toldAt_3, pl_truths_0, px_c8, px_c10, px_c16, px_c20, px_c22, px_c30, px_c36, px_c38, px_c46, px_c54, px_c62, px_c65, px_c73, px_c81, px_c89, px_c97, px_c103, px_c109, px_c119, pr_tape, pln_tape, psn_tape, pr_s, pr_h, pln_h, psn_h, pr_read, pln_read, psn_read, pr_names, pln_names, psn_names, pr_reserved, pln_reserved, psn_reserved, pr_undone, pln_undone, psn_undone, pr_before, pln_before, psn_before, pr_sat, pln_sat, psn_sat, pr_toldAt, pln_toldAt, psn_toldAt, pr_stack, pln_stack, psn_stack, pr_truths, pln_truths, psn_truths, pr_kept, pln_kept, psn_kept, pr_namesKept, pln_namesKept, psn_namesKept, pr_areKept, pln_areKept, psn_areKept, px_c1r, px_rc, px_cI, px_cR, px_cV, px_ckz, px_ckz0, px_ckz1, px_getJ, px_putJ, cz_leti, cz_jn, pg_thrown, pp_thrown, pg_length, pp_length, pg_size, pp_size, pg_p, pp_p, pg_limit, pp_limit, pg_token, pp_token, pg_at, pp_at, pg_span, pp_span, pg_number, pp_number, pg_fault, pp_fault, pg_faultAt, pp_faultAt, pg_got, pp_got, pg_lines, pp_lines, pg_onces, pp_onces, pg_undoMany, pp_undoMany, pg_laidSet, pp_laidSet, pg_hasLaid, pp_hasLaid, pg_turnSet, pp_turnSet, pg_hasTurns, pp_hasTurns, pg_frostDay, pp_frostDay, pg_surelySet, pp_surelySet, pg_neverSet, pp_neverSet, pg_hasHooks, pp_hasHooks, pg_priceNow, pp_priceNow, pg_hasPrice, pp_hasPrice, pg_seed, pp_seed, pg_toldMany, pp_toldMany, pg_hasTold, pp_hasTold, pg_codes, pp_codes, pg_ones, pp_ones, pg_top, pp_top, pg_deep, pp_deep, pg_isWhole, pp_isWhole, px_SAne, px_SL, px_SI, px_SW, px_S1, px_S2, px_S4, px_S3, px_une]
    have en : sp_noon s = if s 64 = 0 then upd (upd s 63 (s 63 + 1)) 64 (s 62 + 1) else upd s 63 (s 63 + 1) := by unfold sp_noon; rw [e, if_pos (by decide)]
    rw [en] at hno hns ⊢
    split
    · rename_i e64
      rw [if_pos e64] at hno hns
      exact rest _ hno hns
    · rename_i e64
      rw [if_neg e64] at hno hns
      exact rest _ hno hns
  · rw [e, if_neg (px_neg (by omega))]
    simp (disch := first | assumption | omega) only [qln, qsn, ql_0, ql_1, ql_2, ql_3, ql_4, ql_5, ql_6, ql_7, ql_62, qs_62, ql_63, qs_63, ql_64, qs_64, ql_117, qs_117, ql_118, qs_118, pl_h_0, ps_h_0, pl_h_1, ps_h_1, pl_h_2, ps_h_2, ps_h_4, ps_h_5, ps_h_6, pl_h_7, ps_h_7, ps_reserved_0, ps_reserved_1, ps_reserved_2, ps_reserved_3, ps_reserved_4, ps_reserved_5, ps_reserved_6, ps_reserved_7, ps_reserved_8, ps_reserved_9, ps_reserved_10, ps_reserved_11, ps_reserved_12, ps_reserved_13, ps_reserved_14, ps_reserved_15, ps_reserved_16, ps_reserved_17, ps_reserved_18, ps_reserved_19, ps_reserved_20, ps_reserved_21, ps_reserved_22, ps_reserved_23, pl_toldAt_0, ps_toldAt_0, pl_toldAt_1, ps_toldAt_1, ps_toldAt_2, ps_toldAt_3, pl_truths_0, px_c8, px_c10, px_c16, px_c20, px_c22, px_c30, px_c36, px_c38, px_c46, px_c54, px_c62, px_c65, px_c73, px_c81, px_c89, px_c97, px_c103, px_c109, px_c119, pr_tape, pln_tape, psn_tape, pr_s, pr_h, pln_h, psn_h, pr_read, pln_read, psn_read, pr_names, pln_names, psn_names, pr_reserved, pln_reserved, psn_reserved, pr_undone, pln_undone, psn_undone, pr_before, pln_before, psn_before, pr_sat, pln_sat, psn_sat, pr_toldAt, pln_toldAt, psn_toldAt, pr_stack, pln_stack, psn_stack, pr_truths, pln_truths, psn_truths, pr_kept, pln_kept, psn_kept, pr_namesKept, pln_namesKept, psn_namesKept, pr_areKept, pln_areKept, psn_areKept, px_c1r, px_rc, px_cI, px_cR, px_cV, px_ckz, px_ckz0, px_ckz1, px_getJ, px_putJ, cz_leti, cz_jn, pg_thrown, pp_thrown, pg_length, pp_length, pg_size, pp_size, pg_p, pp_p, pg_limit, pp_limit, pg_token, pp_token, pg_at, pp_at, pg_span, pp_span, pg_number, pp_number, pg_fault, pp_fault, pg_faultAt, pp_faultAt, pg_got, pp_got, pg_lines, pp_lines, pg_onces, pp_onces, pg_undoMany, pp_undoMany, pg_laidSet, pp_laidSet, pg_hasLaid, pp_hasLaid, pg_turnSet, pp_turnSet, pg_hasTurns, pp_hasTurns, pg_frostDay, pp_frostDay, pg_surelySet, pp_surelySet, pg_neverSet, pp_neverSet, pg_hasHooks, pp_hasHooks, pg_priceNow, pp_priceNow, pg_hasPrice, pp_hasPrice, pg_seed, pp_seed, pg_toldMany, pp_toldMany, pg_hasTold, pp_hasTold, pg_codes, pp_codes, pg_ones, pp_ones, pg_top, pp_top, pg_deep, pp_deep, pg_isWhole, pp_isWhole, px_SAne, px_SL, px_SI, px_SW, px_S1, px_S2, px_S4, px_S3]
    have en : sp_noon s = upd s (103 + k) (s (103 + k) + 1) := by unfold sp_noon; rw [e, if_neg (px_neg (by omega)), Int32.toNatClampNeg_ofNat_of_lt (show k < 2 ^ 31 by omega)]
    rw [en] at hno hns ⊢
    exact rest _ hno hns
end SPC
