/-! THE PLAIN LAW, 44: the best of a day -/
set_option maxRecDepth 100000
noncomputable def sp_pk1 (s : Nat → Int32) (u : Int32) (k : Nat) (b : Int32) : Int32 := if ((u >>> (Int32.ofNat k &&& 31)) &&& 1) = 1 then b else if 0 ≤ sp_coatOn s (Int32.ofNat k) then b else if b = -1 then Int32.ofNat k else if s (8 + k) ≤ s (8 + b.toNatClampNeg) then b else Int32.ofNat k
noncomputable def sp_pick (s : Nat → Int32) (u : Int32) : Int32 := sp_fold (sp_pk1 s u) (sp_n s 0) 0 (-1)
theorem sp_pk1_is {s : Nat → Int32} {u : Int32} {k N : Nat} {b : Int32} (hk : k < N) (h : b = -1 ∨ ∃ i, i < N ∧ b = Int32.ofNat i) : sp_pk1 s u k b = -1 ∨ ∃ i, i < N ∧ sp_pk1 s u k b = Int32.ofNat i := by
  unfold sp_pk1
  split
  · exact h
  · split
    · exact h
    · split
      · exact Or.inr ⟨k, hk, rfl⟩
      · split
        · exact h
        · exact Or.inr ⟨k, hk, rfl⟩
theorem sp_pick_is {s : Nat → Int32} {u : Int32} : sp_pick s u = -1 ∨ ∃ i, i < sp_n s 0 ∧ sp_pick s u = Int32.ofNat i := by
  unfold sp_pick
  refine sp_fold_ind (fun b => b = -1 ∨ ∃ i, i < sp_n s 0 ∧ b = Int32.ofNat i) _ _ _ (Or.inl rfl) ?_
  intro j b _ h2 hb
  exact sp_pk1_is (by omega) hb
noncomputable def sp_wo (s : Nat → Int32) : Nat → Int32 → Int32 → Int32
  | 0, _, a => a
  | n + 1, u, a => if sp_pick s u = -1 then -1 else sp_wo s n (u ||| ((1 : Int32) <<< (sp_pick s u &&& 31))) (a + s (8 + (sp_pick s u).toNatClampNeg))
section BSA
variable {h g : cz_H} {x c m : Nat} {X : cx_X} {s : Nat → Int32} {nm : Nat → Int64} {M : px_M}
theorem pm_worthOf_19 {u : Int32} {k0 : Int32 → cz_H → cz_Z} (ok : sp_ok s) : ∀ (n f k : Nat) (b : Int32), (b = -1 ∨ ∃ i, i < sp_n s 0 ∧ b = Int32.ofNat i) → k + n = sp_n s 0 → n < f → fn_X5_worthOf_19 (some m) u k0 f b (Int32.ofNat k) (px_set g m (px_S M s)) = k0 (sp_fold (sp_pk1 s u) n k b) (px_set g m (px_S M s)) := by
  have h8 := ok.1.2
  intro n
  induction n with
  | zero =>
    intro f k b hb hk hf
    obtain ⟨f, rfl⟩ : ∃ g, f = g + 1 := ⟨f - 1, by omega⟩
    rw [fn_X5_worthOf_19]
    simp (disch := first | assumption | omega) only [qln, qsn, ql_0, ql_1, ql_2, ql_3, ql_4, ql_5, ql_6, ql_7, ql_62, qs_62, ql_63, qs_63, ql_64, qs_64, ql_117, qs_117, ql_118, qs_118, pl_h_0, ps_h_0, pl_h_1, ps_h_1, pl_h_2, ps_h_2, ps_h_4, ps_h_5, ps_h_6, pl_h_7, ps_h_7, ps_reserved_0, ps_reserved_1, ps_reserved_2, ps_reserved_3, ps_reserved_4, ps_reserved_5, ps_reserved_6, ps_reserved_7, ps_reserved_8, ps_reserved_9, ps_reserved_10, ps_reserved_11, ps_reserved_12, ps_reserved_13, ps_reserved_14, ps_reserved_15, ps_reserved_16, ps_reserved_17, ps_reserved_18, ps_reserved_19, ps_reserved_20, ps_reserved_21, ps_reserved_22, ps_reserved_23, pl_toldAt_0, ps_toldAt_0, pl_toldAt_1, ps_toldAt_1, ps_toldAt_2, ps_toldAt_3, pl_truths_0, px_c8, px_c10, px_c16, px_c20, px_c22, px_c30, px_c36, px_c38, px_c46, px_c54, px_c62, px_c65, px_c73, px_c81, px_c89, px_c97, px_c103, px_c109, px_c119, pr_tape, pln_tape, psn_tape, pr_s, pr_h, pln_h, psn_h, pr_read, pln_read, psn_read, pr_names, pln_names, psn_names, pr_reserved, pln_reserved, psn_reserved, pr_undone, pln_undone, psn_undone, pr_before, pln_before, psn_before, pr_sat, pln_sat, psn_sat, pr_toldAt, pln_toldAt, psn_toldAt, pr_stack, pln_stack, psn_stack, pr_truths, pln_truths, psn_truths, pr_kept, pln_kept, psn_kept, pr_namesKept, pln_namesKept, psn_namesKept, pr_areKept, pln_areKept, psn_areKept, px_c1r, px_rc, px_cI, px_cR, px_cV, px_ckz, px_ckz0, px_ckz1, px_getJ, px_putJ, cz_leti, cz_jn, pg_thrown, pp_thrown, pg_length, pp_length, pg_size, pp_size, pg_p, pp_p, pg_limit, pp_limit, pg_token, pp_token, pg_at, pp_at, pg_span, pp_span, pg_number, pp_number, pg_fault, pp_fault, pg_faultAt, pp_faultAt, pg_got, pp_got, pg_lines, pp_lines, pg_onces, pp_onces, pg_undoMany, pp_undoMany, pg_laidSet, pp_laidSet, pg_hasLaid, pp_hasLaid, pg_turnSet, pp_turnSet, pg_hasTurns, pp_hasTurns, pg_frostDay, pp_frostDay, pg_surelySet, pp_surelySet, pg_neverSet, pp_neverSet, pg_hasHooks, pp_hasHooks, pg_priceNow, pp_priceNow, pg_hasPrice, pp_hasPrice, pg_seed, pp_seed, pg_toldMany, pp_toldMany, pg_hasTold, pp_hasTold, pg_codes, pp_codes, pg_ones, pp_ones, pg_top, pp_top, pg_deep, pp_deep, pg_isWhole, pp_isWhole, px_SAne, px_SL, px_SI, px_SW, px_S1, px_S2, px_S4, px_S3]
    rw [ok.1.1, if_pos (by rw [px_le (by omega) (by omega)]; omega)]
    rfl
  | succ n ih =>
    intro f k b hb hk hf
    obtain ⟨f, rfl⟩ : ∃ g, f = g + 1 := ⟨f - 1, by omega⟩
    rw [fn_X5_worthOf_19]
    simp (disch := first | assumption | omega) only [qln, qsn, ql_0, ql_1, ql_2, ql_3, ql_4, ql_5, ql_6, ql_7, ql_62, qs_62, ql_63, qs_63, ql_64, qs_64, ql_117, qs_117, ql_118, qs_118, pl_h_0, ps_h_0, pl_h_1, ps_h_1, pl_h_2, ps_h_2, ps_h_4, ps_h_5, ps_h_6, pl_h_7, ps_h_7, ps_reserved_0, ps_reserved_1, ps_reserved_2, ps_reserved_3, ps_reserved_4, ps_reserved_5, ps_reserved_6, ps_reserved_7, ps_reserved_8, ps_reserved_9, ps_reserved_10, ps_reserved_11, ps_reserved_12, ps_reserved_13, ps_reserved_14, ps_reserved_15, ps_reserved_16, ps_reserved_17, ps_reserved_18, ps_reserved_19, ps_reserved_20, ps_reserved_21, ps_reserved_22, ps_reserved_23, pl_toldAt_0, ps_toldAt_0, pl_toldAt_1, ps_toldAt_1, ps_toldAt_2, ps_toldAt_3, pl_truths_0, px_c8, px_c10, px_c16, px_c20, px_c22, px_c30, px_c36, px_c38, px_c46, px_c54, px_c62, px_c65, px_c73, px_c81, px_c89, px_c97, px_c103, px_c109, px_c119, pr_tape, pln_tape, psn_tape, pr_s, pr_h, pln_h, psn_h, pr_read, pln_read, psn_read, pr_names, pln_names, psn_names, pr_reserved, pln_reserved, psn_reserved, pr_undone, pln_undone, psn_undone, pr_before, pln_before, psn_before, pr_sat, pln_sat, psn_sat, pr_toldAt, pln_toldAt, psn_toldAt, pr_stack, pln_stack, psn_stack, pr_truths, pln_truths, psn_truths, pr_kept, pln_kept, psn_kept, pr_namesKept, pln_namesKept, psn_namesKept, pr_areKept, pln_areKept, psn_areKept, px_c1r, px_rc, px_cI, px_cR, px_cV, px_ckz, px_ckz0, px_ckz1, px_getJ, px_putJ, cz_leti, cz_jn, pg_thrown, pp_thrown, pg_length, pp_length, pg_size, pp_size, pg_p, pp_p, pg_limit, pp_limit, pg_token, pp_token, pg_at, pp_at, pg_span, pp_span, pg_number, pp_number, pg_fault, pp_fault, pg_faultAt, pp_faultAt, pg_got, pp_got, pg_lines, pp_lines, pg_onces, pp_onces, pg_undoMany, pp_undoMany, pg_laidSet, pp_laidSet, pg_hasLaid, pp_hasLaid, pg_turnSet, pp_turnSet, pg_hasTurns, pp_hasTurns, pg_frostDay, pp_frostDay, pg_surelySet, pp_surelySet, pg_neverSet, pp_neverSet, pg_hasHooks, pp_hasHooks, pg_priceNow, pp_priceNow, pg_hasPrice, pp_hasPrice, pg_seed, pp_seed, pg_toldMany, pp_toldMany, pg_hasTold, pp_hasTold, pg_codes, pp_codes, pg_ones, pp_ones, pg_top, pp_top, pg_deep, pp_deep, pg_isWhole, pp_isWhole, px_SAne, px_SL, px_SI, px_SW, px_S1, px_S2, px_S4, px_S3, pm_bitOf, px_e0, ite_not, pm_coatOn ok]
    rw [ok.1.1, if_neg (by rw [px_le (by omega) (by omega)]; omega), sp_fold]
    have nx := sp_pk1_is (s := s) (u := u) (k := k) (by omega) hb
    refine Eq.trans ?_ (ih f (k + 1) (sp_pk1 s u k b) nx (by omega) (by omega))
    unfold sp_pk1
    by_cases e1 : ((u >>> (Int32.ofNat k &&& 31)) &&& 1) = 1
    · (rw [if_pos e1, if_pos e1])
    rw [if_neg e1, if_neg e1]
    by_cases e2 : 0 ≤ sp_coatOn s (Int32.ofNat k)
    · (rw [if_pos e2, if_pos e2])
    rw [if_neg e2, if_neg e2]
    rcases hb with e3 | ⟨i, hi, e3⟩
    · (subst e3; rw [if_pos (by decide), if_pos rfl])
    · (subst e3; rw [if_neg (px_neg (by omega)), if_neg (px_pos (by omega)), px_c8, qln (by omega), Int32.toNatClampNeg_ofNat_of_lt (show i < 2 ^ 31 by omega)]; split <;> rfl)
theorem pm_worthOf_7 {N : Nat} {k0 : cz_H → cz_Z} {k1 : Int32 → cz_H → cz_Z} (ok : sp_ok s) (hN : N ≤ 8) : ∀ (n f k : Nat) (u a : Int32), k + n = N → n < f → (∃ z : Bool, z = true) → fn_X5_worthOf_7 (some m) (Int32.ofNat N) (fun h29 => some (.inl (some (cz_i (-1))), h29)) (fun (e30 : Int32) (h31 : cz_H) => some (.inl (some (cz_i e30)), h31)) f u a (Int32.ofNat k) (px_set g m (px_S M s)) = some (.inl (some (cz_i (sp_wo s n u a))), px_set g m (px_S M s)) := by
  have h8 := ok.1.2
  intro n
  induction n with
  | zero =>
    intro f k u a hk hf _
    obtain ⟨f, rfl⟩ : ∃ g, f = g + 1 := ⟨f - 1, by omega⟩
    rw [fn_X5_worthOf_7, if_pos (by rw [px_le (by omega) (by omega)]; omega)]
    rfl
  | succ n ih =>
    intro f k u a hk hf z
    obtain ⟨f, rfl⟩ : ∃ g, f = g + 1 := ⟨f - 1, by omega⟩
    rw [fn_X5_worthOf_7, if_neg (by rw [px_le (by omega) (by omega)]; omega)]
    refine (pm_worthOf_19 ok (sp_n s 0) 1000 0 (-1) (Or.inl rfl) (Nat.zero_add _) (by omega)).trans ?_
    have e : sp_fold (sp_pk1 s u) (sp_n s 0) 0 (-1) = sp_pick s u := rfl
    rw [e, sp_wo]
    rcases sp_pick_is (s := s) (u := u) with p | ⟨i, hi, p⟩
    · rw [p, if_neg (by decide), if_pos rfl]
    · rw [p, if_pos (px_nn i (by omega)), if_neg (px_pos (by omega))]
      simp (disch := first | assumption | omega) only [qln, qsn, ql_0, ql_1, ql_2, ql_3, ql_4, ql_5, ql_6, ql_7, ql_62, qs_62, ql_63, qs_63, ql_64, qs_64, ql_117, qs_117, ql_118, qs_118, pl_h_0, ps_h_0, pl_h_1, ps_h_1, pl_h_2, ps_h_2, ps_h_4, ps_h_5, ps_h_6, pl_h_7, ps_h_7, ps_reserved_0, ps_reserved_1, ps_reserved_2, ps_reserved_3, ps_reserved_4, ps_reserved_5, ps_reserved_6, ps_reserved_7, ps_reserved_8, ps_reserved_9, ps_reserved_10, ps_reserved_11, ps_reserved_12, ps_reserved_13, ps_reserved_14, ps_reserved_15, ps_reserved_16, ps_reserved_17, ps_reserved_18, ps_reserved_19, ps_reserved_20, ps_reserved_21, ps_reserved_22, ps_reserved_23, pl_toldAt_0, ps_toldAt_0, pl_toldAt_1, ps_toldAt_1, ps_toldAt_2, ps_toldAt_3, pl_truths_0, px_c8, px_c10, px_c16, px_c20, px_c22, px_c30, px_c36, px_c38, px_c46, px_c54, px_c62, px_c65, px_c73, px_c81, px_c89, px_c97, px_c103, px_c109, px_c119, pr_tape, pln_tape, psn_tape, pr_s, pr_h, pln_h, psn_h, pr_read, pln_read, psn_read, pr_names, pln_names, psn_names, pr_reserved, pln_reserved, psn_reserved, pr_undone, pln_undone, psn_undone, pr_before, pln_before, psn_before, pr_sat, pln_sat, psn_sat, pr_toldAt, pln_toldAt, psn_toldAt, pr_stack, pln_stack, psn_stack, pr_truths, pln_truths, psn_truths, pr_kept, pln_kept, psn_kept, pr_namesKept, pln_namesKept, psn_namesKept, pr_areKept, pln_areKept, psn_areKept, px_c1r, px_rc, px_cI, px_cR, px_cV, px_ckz, px_ckz0, px_ckz1, px_getJ, px_putJ, cz_leti, cz_jn, pg_thrown, pp_thrown, pg_length, pp_length, pg_size, pp_size, pg_p, pp_p, pg_limit, pp_limit, pg_token, pp_token, pg_at, pp_at, pg_span, pp_span, pg_number, pp_number, pg_fault, pp_fault, pg_faultAt, pp_faultAt, pg_got, pp_got, pg_lines, pp_lines, pg_onces, pp_onces, pg_undoMany, pp_undoMany, pg_laidSet, pp_laidSet, pg_hasLaid, pp_hasLaid, pg_turnSet, pp_turnSet, pg_hasTurns, pp_hasTurns, pg_frostDay, pp_frostDay, pg_surelySet, pp_surelySet, pg_neverSet, pp_neverSet, pg_hasHooks, pp_hasHooks, pg_priceNow, pp_priceNow, pg_hasPrice, pp_hasPrice, pg_seed, pp_seed, pg_toldMany, pp_toldMany, pg_hasTold, pp_hasTold, pg_codes, pp_codes, pg_ones, pp_ones, pg_top, pp_top, pg_deep, pp_deep, pg_isWhole, pp_isWhole, px_SAne, px_SL, px_SI, px_SW, px_S1, px_S2, px_S4, px_S3]
      rw [Int32.toNatClampNeg_ofNat_of_lt (show i < 2 ^ 31 by omega)]
      exact ih f (k + 1) _ _ (by omega) (by omega) z
theorem pm_worthOf {N : Nat} (ok : sp_ok s) (hN : N ≤ 8) : fn_X5_worthOf (some m) (Int32.ofNat N) (px_set g m (px_S M s)) = some (.inl (some (cz_i (sp_wo s N 0 0))), px_set g m (px_S M s)) := by
  rw [fn_X5_worthOf]
  exact pm_worthOf_7 (k0 := fun _ => none) (k1 := fun _ _ => none) ok hN N 1000 0 0 0 (Nat.zero_add _) (by omega) ⟨true, rfl⟩
theorem cm_worthOf_19 {u : Int32} {k0 : Int32 → cz_H → cz_Z} (hc : X.2.1 0 = some c) (H : cx_st h x X 0 c s nm) : ∀ (n f k : Nat) (b : Int32), (b = -1 ∨ ∃ i, i < sp_n s 0 ∧ b = Int32.ofNat i) → k + n = sp_n s 0 → n < f → fn_X1_worthOf_19 (some x) u k0 f b (Int32.ofNat k) (cx_set h x X) = k0 (sp_fold (sp_pk1 s u) n k b) (cx_set h x X) := by
  have h8 := H.1.1.1.1.1.2
  have g8 := H.1.1.1.1.2.2.1.2
  intro n
  induction n with
  | zero =>
    intro f k b hb hk hf
    obtain ⟨f, rfl⟩ : ∃ g, f = g + 1 := ⟨f - 1, by omega⟩
    rw [fn_X1_worthOf_19, cx_rc, cm_seats hc H, px_cI, if_pos (by rw [px_le (by omega) (by omega)]; omega)]
    rfl
  | succ n ih =>
    intro f k b hb hk hf
    obtain ⟨f, rfl⟩ : ∃ g, f = g + 1 := ⟨f - 1, by omega⟩
    rw [fn_X1_worthOf_19, cx_rc, cm_seats hc H, px_cI, if_neg (by rw [px_le (by omega) (by omega)]; omega), cg_now, n0_rc, n0_on H, px_cI, sp_fold]
    have nx := sp_pk1_is (s := s) (u := u) (k := k) (by omega) hb
    refine Eq.trans ?_ (ih f (k + 1) (sp_pk1 s u k b) nx (by omega) (by omega))
    unfold sp_pk1
    simp only [pc_isOf, px_cI, px_e0, ite_not, cz_leti, px_c1r, cg_capital, hc]
    by_cases e1 : ((u >>> (Int32.ofNat k &&& 31)) &&& 1) = 1
    · (rw [if_pos e1, if_pos e1]; split <;> rfl)
    rw [if_neg e1, if_neg e1]
    rcases sp_coatOn_is s (Int32.ofNat k) with e2 | ⟨q, hq, -, e2⟩
    rotate_left
    · (rw [e2, if_neg (px_pos (by omega)), if_pos (px_nn q (by omega))])
    rw [e2, if_pos (show (-1 : Int32) = -1 from rfl), if_neg (show ¬ (0 : Int32) ≤ -1 by decide)]
    rcases hb with e3 | ⟨i, hi, e3⟩
    · (subst e3; rw [if_pos rfl, if_pos rfl])
    · (subst e3; rw [if_neg (px_pos (by omega)), if_neg (px_pos (by omega)), Int32.toNatClampNeg_ofNat_of_lt (show i < 2 ^ 31 by omega)]; refine (pc_seatN (i := k) H.1.1.1.1 H.cap (by omega)).trans ?_; rw [cg_capital, hc]; refine (pc_seatN (i := i) H.1.1.1.1 H.cap hi).trans ?_; split <;> rfl)
theorem cm_worthOf_7 {N : Nat} (hc : X.2.1 0 = some c) (H : cx_st h x X 0 c s nm) (hN : N ≤ 8) : ∀ (n f k : Nat) (u a : Int32), k + n = N → n < f → fn_X1_worthOf_7 (some x) (Int32.ofNat N) (fun h29 => some (.inl (some (cz_i (-1))), h29)) (fun (e30 : Int32) (h31 : cz_H) => some (.inl (some (cz_i e30)), h31)) f u a (Int32.ofNat k) (cx_set h x X) = some (.inl (some (cz_i (sp_wo s n u a))), cx_set h x X) := by
  have h8 := H.1.1.1.1.1.2
  intro n
  induction n with
  | zero =>
    intro f k u a hk hf
    obtain ⟨f, rfl⟩ : ∃ g, f = g + 1 := ⟨f - 1, by omega⟩
    rw [fn_X1_worthOf_7, if_pos (by rw [px_le (by omega) (by omega)]; omega)]
    rfl
  | succ n ih =>
    intro f k u a hk hf
    obtain ⟨f, rfl⟩ : ∃ g, f = g + 1 := ⟨f - 1, by omega⟩
    rw [fn_X1_worthOf_7, if_neg (by rw [px_le (by omega) (by omega)]; omega)]
    refine (cm_worthOf_19 hc H (sp_n s 0) 1000 0 (-1) (Or.inl rfl) (Nat.zero_add _) (by omega)).trans ?_
    have e : sp_fold (sp_pk1 s u) (sp_n s 0) 0 (-1) = sp_pick s u := rfl
    rw [e, sp_wo]
    rcases sp_pick_is (s := s) (u := u) with p | ⟨i, hi, p⟩
    · rw [p, if_pos rfl, if_pos rfl]
    · rw [p, if_neg (px_pos (by omega)), if_neg (px_pos (by omega))]
      simp only [cz_leti, cg_capital, hc, px_c1r]
      refine (pc_seatN (i := i) H.1.1.1.1 H.cap hi).trans ?_
      rw [Int32.toNatClampNeg_ofNat_of_lt (show i < 2 ^ 31 by omega)]
      exact ih f (k + 1) _ _ (by omega) (by omega)
theorem cm_worthOf {N : Nat} (hc : X.2.1 0 = some c) (H : cx_st h x X 0 c s nm) (hN : N ≤ 8) : fn_X1_worthOf (some x) (Int32.ofNat N) (cx_set h x X) = some (.inl (some (cz_i (sp_wo s N 0 0))), cx_set h x X) := by
  rw [fn_X1_worthOf]
  exact cm_worthOf_7 hc H hN N 1000 0 0 0 (Nat.zero_add _) (by omega)
end BSA
