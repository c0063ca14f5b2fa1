/-! THE PLAIN LAW, 40: bribes -/
set_option maxRecDepth 100000
def sp_brS (S v : Int32) (a : Int32 × Int32 × Int32) : Int32 × Int32 × Int32 :=
  (if ((S >>> (v &&& 31)) &&& 1) = 1 then a.1 ||| ((1 : Int32) <<< (v &&& 31)) else a.1, if ((S >>> (v &&& 31)) &&& 1) = 1 then (if a.2.2 = 0 then a.2.1 + 1 else a.2.1) else a.2.1, if a.2.2 = 0 then 0 else if ((S >>> (v &&& 31)) &&& 1) = 1 then 1 else 0)
def sp_run (p : Nat → Bool) : Nat → Nat → Nat
  | 0, k => k
  | n + 1, k => if p k = true then sp_run p n (k + 1) else k
theorem sp_fold_list {α : Type} {F : Int32 → α → α} {s : Nat → Int32} : ∀ (R : List Nat) (k : Nat) (a : α), (∀ i, i < R.length → s (109 + (k + i)) = Int32.ofNat (R.getD i 0)) → sp_fold (fun k a => F (s (109 + k)) a) R.length k a = R.foldl (fun a q => F (Int32.ofNat q) a) a := by
  intro R
  induction R with
  | nil => intro k a _; rfl
  | cons x R ih =>
    intro k a h
    have h0 : s (109 + k) = Int32.ofNat x := h 0 (Nat.zero_lt_succ _)
    rw [List.length_cons, sp_fold, List.foldl_cons, h0]
    exact ih (k + 1) _ (fun i hi => by
      have := h (i + 1) (by rw [List.length_cons]; omega)
      rw [show k + 1 + i = k + (i + 1) by omega, this]
      rfl)
theorem sp_run_list {p : Nat → Bool} {b : Nat → Bool} : ∀ (R : List Nat) (k : Nat), (∀ i, i < R.length → p (k + i) = b (R.getD i 0)) → sp_run p R.length k = k + (R.takeWhile b).length := by
  intro R
  induction R with
  | nil => intro k _; rfl
  | cons x R ih =>
    intro k h
    have h0 : p k = b x := h 0 (Nat.zero_lt_succ _)
    rw [List.length_cons, sp_run, h0]
    by_cases e : b x = true
    · rw [if_pos e, List.takeWhile_cons_of_pos e, List.length_cons, ih (k + 1) (fun i hi => by
        have := h (i + 1) (by rw [List.length_cons]; omega)
        rw [show k + 1 + i = k + (i + 1) by omega, this]
        rfl)]
      omega
    · rw [if_neg e, List.takeWhile_cons_of_neg e]
      rfl
def sp_bb (S : Int32) (q : Nat) : Bool := decide (((S >>> (Int32.ofNat q &&& 31)) &&& 1) = 1)
theorem sp_br_there {S : Int32} {j : Nat} (hj : j < 32) : ∀ (R : List Nat) (a : Int32 × Int32 × Int32), (∀ q ∈ R, q < 8) → (R.foldl (fun a q => sp_brS S (Int32.ofNat q) a) a).1.toBitVec.getLsbD j = (a.1.toBitVec.getLsbD j || decide (j ∈ R ∧ sp_bb S j = true)) := by
  intro R
  induction R with
  | nil => intro a _; simp
  | cons x R ih =>
    intro a h
    have hx := h x List.mem_cons_self
    rw [List.foldl_cons, ih _ (fun q hq => h q (List.mem_cons_of_mem _ hq))]
    unfold sp_brS
    dsimp only
    by_cases e : ((S >>> (Int32.ofNat x &&& 31)) &&& 1) = 1
    · rw [if_pos e, Int32.toBitVec_or, BitVec.getLsbD_or, px_one (by omega) hj, Bool.or_assoc]
      congr 1
      by_cases ej : j = x
      · subst ej
        have : sp_bb S j = true := decide_eq_true e
        simp [this]
      · simp [ej]
    · rw [if_neg e]
      congr 1
      by_cases ej : j = x
      · subst ej
        have : sp_bb S j = false := decide_eq_false e
        simp [this]
      · simp [ej]
theorem sp_br_n0 {S : Int32} : ∀ (R : List Nat) (t n : Int32), (R.foldl (fun a q => sp_brS S (Int32.ofNat q) a) (t, n, 0)).2.1 = n + Int32.ofNat (R.filter (sp_bb S)).length := by
  intro R
  induction R with
  | nil => intro t n; simp
  | cons x R ih =>
    intro t n
    rw [List.foldl_cons]
    have e0 : sp_brS S (Int32.ofNat x) (t, n, 0) = (if ((S >>> (Int32.ofNat x &&& 31)) &&& 1) = 1 then t ||| ((1 : Int32) <<< (Int32.ofNat x &&& 31)) else t, if ((S >>> (Int32.ofNat x &&& 31)) &&& 1) = 1 then n + 1 else n, 0) := rfl
    rw [e0, ih]
    by_cases e : ((S >>> (Int32.ofNat x &&& 31)) &&& 1) = 1
    · rw [if_pos e, List.filter_cons_of_pos (p := sp_bb S) (a := x) (decide_eq_true e), List.length_cons, Int32.ofNat_add, Int32.add_assoc, Int32.add_comm 1]
      rfl
    · rw [if_neg e, List.filter_cons_of_neg (by unfold sp_bb; rw [decide_eq_false e]; decide)]
theorem sp_br_n1 {S : Int32} : ∀ (R : List Nat) (t n : Int32), (R.foldl (fun a q => sp_brS S (Int32.ofNat q) a) (t, n, 1)).2.1 + Int32.ofNat (R.takeWhile (sp_bb S)).length = n + Int32.ofNat (R.filter (sp_bb S)).length := by
  intro R
  induction R with
  | nil => intro t n; simp
  | cons x R ih =>
    intro t n
    rw [List.foldl_cons]
    by_cases e : ((S >>> (Int32.ofNat x &&& 31)) &&& 1) = 1
    · have e0 : sp_brS S (Int32.ofNat x) (t, n, 1) = (t ||| ((1 : Int32) <<< (Int32.ofNat x &&& 31)), n, 1) := by
        unfold sp_brS
        dsimp only
        rw [if_pos e, if_pos e, if_neg (by decide), if_neg (by decide), if_pos e]
      rw [e0, List.filter_cons_of_pos (p := sp_bb S) (a := x) (decide_eq_true e), List.takeWhile_cons_of_pos (p := sp_bb S) (a := x) (decide_eq_true e), List.length_cons, List.length_cons, Int32.ofNat_add, Int32.ofNat_add, ← Int32.add_assoc, ih, Int32.add_assoc]
    · have e0 : sp_brS S (Int32.ofNat x) (t, n, 1) = (t, n, 0) := by
        unfold sp_brS
        dsimp only
        rw [if_neg e, if_neg e, if_neg (by decide), if_neg e]
      have eb : ¬ sp_bb S x = true := by unfold sp_bb; rw [decide_eq_false e]; decide
      rw [e0, List.filter_cons_of_neg eb, List.takeWhile_cons_of_neg eb, sp_br_n0]
      simp
theorem px_two : ∀ n : Fin 9, (1 : Int32) <<< (Int32.ofNat n.val &&& 31) = Int32.ofNat (2 ^ n.val) ∧ 2 ^ n.val ≤ 256 := by decide
theorem px_set_lt {S : Int32} {n : Nat} (hn : n ≤ 8) (h0 : ¬ S < 0) (h1 : S < (1 : Int32) <<< (Int32.ofNat n &&& 31)) : ∃ v, v < 256 ∧ S = Int32.ofNat v := by
  obtain ⟨e, h2⟩ := px_two ⟨n, by omega⟩
  dsimp only at e h2
  rw [e] at h1
  have a := Int32.le_iff_toInt_le.mp (Int32.not_lt.mp h0)
  have b := Int32.lt_iff_toInt_lt.mp h1
  rw [Int32.toInt_ofNat_small (by omega)] at b
  have a' : (0 : Int) ≤ S.toInt := by simpa using a
  refine ⟨S.toInt.toNat, by omega, ?_⟩
  apply Int32.toInt_inj.mp
  rw [Int32.toInt_ofNat_small (by omega)]
  omega
section BRA
variable {h g : cz_H} {x c m : Nat} {X : cx_X} {s : Nat → Int32} {nm : Nat → Int64} {M : px_M}
theorem pm_bribes_38 {S : Int32} {N : Nat} {k0 : Int32 → cz_H → cz_Z} (h8 : N ≤ 8) (hN : s 117 = Int32.ofNat N) : ∀ (n f k : Nat), k + n = N → n < f → fn_X5_bribes_38 (some m) S k0 f (Int32.ofNat k) (px_set g m (px_S M s)) = k0 (Int32.ofNat (sp_run (fun k => decide (((S >>> (s (109 + k) &&& 31)) &&& 1) = 1)) n k)) (px_set g m (px_S M s)) := by
  intro n
  induction n with
  | zero =>
    intro f k hk hf
    obtain ⟨f, rfl⟩ : ∃ g, f = g + 1 := ⟨f - 1, by omega⟩
    rw [fn_X5_bribes_38]
    simp (disch := first | assumption | omega) only [qln, qsn, ql_0, ql_1, ql_2, ql_3, ql_4, ql_5, ql_6, ql_7, ql_62, qs_62, ql_63, qs_63, ql_64, qs_64, ql_117, qs_117, ql_118, qs_118, pl_h_0, ps_h_0, pl_h_1, ps_h_1, pl_h_2, ps_h_2, ps_h_4, ps_h_5, ps_h_6, pl_h_7, ps_h_7, ps_reserved_0, ps_reserved_1, ps_reserved_2, ps_reserved_3, ps_reserved_4, ps_reserved_5, ps_reserved_6, ps_reserved_7, ps_reserved_8, ps_reserved_9, ps_reserved_10, ps_reserved_11, ps_reserved_12, ps_reserved_13, ps_reserved_14, ps_reserved_15, ps_reserved_16, ps_reserved_17, ps_reserved_18, ps_reserved_19, ps_reserved_20, ps_reserved_21, ps_reserved_22, ps_reserved_23, pl_toldAt_0, ps_toldAt_0, pl_toldAt_1, ps_toldAt_1, ps_toldAt_2, ps_toldAt_3, pl_truths_0, px_c8, px_c10, px_c16, px_c20, px_c22, px_c30, px_c36, px_c38, px_c46, px_c54, px_c62, px_c65, px_c73, px_c81, px_c89, px_c97, px_c103, px_c109, px_c119, pr_tape, pln_tape, psn_tape, pr_s, pr_h, pln_h, psn_h, pr_read, pln_read, psn_read, pr_names, pln_names, psn_names, pr_reserved, pln_reserved, psn_reserved, pr_undone, pln_undone, psn_undone, pr_before, pln_before, psn_before, pr_sat, pln_sat, psn_sat, pr_toldAt, pln_toldAt, psn_toldAt, pr_stack, pln_stack, psn_stack, pr_truths, pln_truths, psn_truths, pr_kept, pln_kept, psn_kept, pr_namesKept, pln_namesKept, psn_namesKept, pr_areKept, pln_areKept, psn_areKept, px_c1r, px_rc, px_cI, px_cR, px_cV, px_ckz, px_ckz0, px_ckz1, px_getJ, px_putJ, cz_leti, cz_jn, pg_thrown, pp_thrown, pg_length, pp_length, pg_size, pp_size, pg_p, pp_p, pg_limit, pp_limit, pg_token, pp_token, pg_at, pp_at, pg_span, pp_span, pg_number, pp_number, pg_fault, pp_fault, pg_faultAt, pp_faultAt, pg_got, pp_got, pg_lines, pp_lines, pg_onces, pp_onces, pg_undoMany, pp_undoMany, pg_laidSet, pp_laidSet, pg_hasLaid, pp_hasLaid, pg_turnSet, pp_turnSet, pg_hasTurns, pp_hasTurns, pg_frostDay, pp_frostDay, pg_surelySet, pp_surelySet, pg_neverSet, pp_neverSet, pg_hasHooks, pp_hasHooks, pg_priceNow, pp_priceNow, pg_hasPrice, pp_hasPrice, pg_seed, pp_seed, pg_toldMany, pp_toldMany, pg_hasTold, pp_hasTold, pg_codes, pp_codes, pg_ones, pp_ones, pg_top, pp_top, pg_deep, pp_deep, pg_isWhole, pp_isWhole, px_SAne, px_SL, px_SI, px_SW, px_S1, px_S2, px_S4, px_S3]
    rw [hN, if_pos (by rw [px_le (by omega) (by omega)]; omega)]
    rfl
  | succ n ih =>
    intro f k hk hf
    obtain ⟨f, rfl⟩ : ∃ g, f = g + 1 := ⟨f - 1, by omega⟩
    rw [fn_X5_bribes_38]
    simp (disch := first | assumption | omega) only [qln, qsn, ql_0, ql_1, ql_2, ql_3, ql_4, ql_5, ql_6, ql_7, ql_62, qs_62, ql_63, qs_63, ql_64, qs_64, ql_117, qs_117, ql_118, qs_118, pl_h_0, ps_h_0, pl_h_1, ps_h_1, pl_h_2, ps_h_2, ps_h_4, ps_h_5, ps_h_6, pl_h_7, ps_h_7, ps_reserved_0, ps_reserved_1, ps_reserved_2, ps_reserved_3, ps_reserved_4, ps_reserved_5, ps_reserved_6, ps_reserved_7, ps_reserved_8, ps_reserved_9, ps_reserved_10, ps_reserved_11, ps_reserved_12, ps_reserved_13, ps_reserved_14, ps_reserved_15, ps_reserved_16, ps_reserved_17, ps_reserved_18, ps_reserved_19, ps_reserved_20, ps_reserved_21, ps_reserved_22, ps_reserved_23, pl_toldAt_0, ps_toldAt_0, pl_toldAt_1, ps_toldAt_1, ps_toldAt_2, ps_toldAt_3, pl_truths_0, px_c8, px_c10, px_c16, px_c20, px_c22, px_c30, px_c36, px_c38, px_c46, px_c54, px_c62, px_c65, px_c73, px_c81, px_c89, px_c97, px_c103, px_c109, px_c119, pr_tape, pln_tape, psn_tape, pr_s, pr_h, pln_h, psn_h, pr_read, pln_read, psn_read, pr_names, pln_names, psn_names, pr_reserved, pln_reserved, psn_reserved, pr_undone, pln_undone, psn_undone, pr_before, pln_before, psn_before, pr_sat, pln_sat, psn_sat, pr_toldAt, pln_toldAt, psn_toldAt, pr_stack, pln_stack, psn_stack, pr_truths, pln_truths, psn_truths, pr_kept, pln_kept, psn_kept, pr_namesKept, pln_namesKept, psn_namesKept, pr_areKept, pln_areKept, psn_areKept, px_c1r, px_rc, px_cI, px_cR, px_cV, px_ckz, px_ckz0, px_ckz1, px_getJ, px_putJ, cz_leti, cz_jn, pg_thrown, pp_thrown, pg_length, pp_length, pg_size, pp_size, pg_p, pp_p, pg_limit, pp_limit, pg_token, pp_token, pg_at, pp_at, pg_span, pp_span, pg_number, pp_number, pg_fault, pp_fault, pg_faultAt, pp_faultAt, pg_got, pp_got, pg_lines, pp_lines, pg_onces, pp_onces, pg_undoMany, pp_undoMany, pg_laidSet, pp_laidSet, pg_hasLaid, pp_hasLaid, pg_turnSet, pp_turnSet, pg_hasTurns, pp_hasTurns, pg_frostDay, pp_frostDay, pg_surelySet, pp_surelySet, pg_neverSet, pp_neverSet, pg_hasHooks, pp_hasHooks, pg_priceNow, pp_priceNow, pg_hasPrice, pp_hasPrice, pg_seed, pp_seed, pg_toldMany, pp_toldMany, pg_hasTold, pp_hasTold, pg_codes, pp_codes, pg_ones, pp_ones, pg_top, pp_top, pg_deep, pp_deep, pg_isWhole, pp_isWhole, px_SAne, px_SL, px_SI, px_SW, px_S1, px_S2, px_S4, px_S3, ih, pm_bitOf, px_e0, ite_not, sp_run, decide_eq_true_eq]
    rw [hN, if_neg (by rw [px_le (by omega) (by omega)]; omega)]
    split <;> rfl
theorem cm_bribes_26 {S : Int32} {N : Nat} {k0 : Int32 → Int32 → cz_H → cz_Z} (h8 : N ≤ 8) (hN : (X.2.2.2.2 0).2.1 5 = Int32.ofNat N) (hq : ∀ k, k < N → (X.2.2.2.2 0).2.2 10 k = s (109 + k)) : ∀ (n f k : Nat) (t : Int32) (nn : Int32) (fi : Int32), k + n = N → n < f → fn_X1_bribes_26 (some x) S k0 f t nn fi (Int32.ofNat k) (cx_set h x X) = k0 (sp_fold (fun k a => sp_brS S (s (109 + k)) a) n k (t, nn, fi)).1 (sp_fold (fun k a => sp_brS S (s (109 + k)) a) n k (t, nn, fi)).2.1 (cx_set h x X) := by
  intro n
  induction n with
  | zero =>
    intro f k t nn fi hk hf
    obtain ⟨f, rfl⟩ : ∃ g, f = g + 1 := ⟨f - 1, by omega⟩
    rw [fn_X1_bribes_26, cg_now, n0_queued, hN, if_pos (by rw [px_le (by omega) (by omega)]; omega)]
    rfl
  | succ n ih =>
    intro f k t nn fi hk hf
    obtain ⟨f, rfl⟩ : ∃ g, f = g + 1 := ⟨f - 1, by omega⟩
    rw [fn_X1_bribes_26, cg_now, n0_queued, hN, if_neg (by rw [px_le (by omega) (by omega)]; omega), cg_now, n0_queue, n0l_queue (by omega), hq k (by omega), pc_isOf, px_cI]
    have k8 : k < 8 := by omega
    simp only [cz_jn, cg_now, n0_queue, n0l_queue k8, hq k (show k < N by omega), cz_leti, px_c1r, px_e0, ite_not]
    rw [sp_fold]
    have un : sp_brS S (s (109 + k)) (t, nn, fi) = (if ((S >>> (s (109 + k) &&& 31)) &&& 1) = 1 then t ||| ((1 : Int32) <<< (s (109 + k) &&& 31)) else t, if ((S >>> (s (109 + k) &&& 31)) &&& 1) = 1 then (if fi = 0 then nn + 1 else nn) else nn, if fi = 0 then 0 else if ((S >>> (s (109 + k) &&& 31)) &&& 1) = 1 then 1 else 0) := rfl
    rw [un]
    by_cases e1 : fi = 0
    · by_cases e2 : ((S >>> (s (109 + k) &&& 31)) &&& 1) = 1 <;> simp only [e1, e2, if_true, if_false, if_neg (show ¬ (1 : Int32) = 0 by decide)] <;> exact ih f (k + 1) _ _ _ (by omega) (by omega)
    · by_cases e2 : ((S >>> (s (109 + k) &&& 31)) &&& 1) = 1 <;> simp only [e1, e2, if_true, if_false, if_neg (show ¬ (1 : Int32) = 0 by decide)] <;> exact ih f (k + 1) _ _ _ (by omega) (by omega)
theorem qa_bribes {S : Int32} (hc : X.2.1 0 = some c) (H : cx_st h x X 0 c s nm) : qa h x X s M (fun r g => fn_X1_bribes r S g) (fun r g => fn_X5_bribes r S g) := by
  have ok := H.1.1.1.1
  have g8 := ok.2.2.1.2
  obtain ⟨N, h8, hN, hN2, hq⟩ := cx_q H
  obtain ⟨-, Q, hQ⟩ := H.1.1.1
  have hNQ : N = Q.length := by
    have := hQ.len ok
    rw [hQ.2.2.1, px_inj (by omega) (by omega)] at hN
    exact hN.symm
  subst hNQ
  unfold qa
  dsimp only
  by_cases h0 : S < 0
  · refine ⟨-1, by rw [fn_X1_bribes, if_pos h0], fun g m hb => ?_⟩
    rw [fn_X5_bribes]
    simp (disch := first | assumption | omega) only [qln, qsn, ql_0, ql_1, ql_2, ql_3, ql_4, ql_5, ql_6, ql_7, ql_62, qs_62, ql_63, qs_63, ql_64, qs_64, ql_117, qs_117, ql_118, qs_118, pl_h_0, ps_h_0, pl_h_1, ps_h_1, pl_h_2, ps_h_2, ps_h_4, ps_h_5, ps_h_6, pl_h_7, ps_h_7, ps_reserved_0, ps_reserved_1, ps_reserved_2, ps_reserved_3, ps_reserved_4, ps_reserved_5, ps_reserved_6, ps_reserved_7, ps_reserved_8, ps_reserved_9, ps_reserved_10, ps_reserved_11, ps_reserved_12, ps_reserved_13, ps_reserved_14, ps_reserved_15, ps_reserved_16, ps_reserved_17, ps_reserved_18, ps_reserved_19, ps_reserved_20, ps_reserved_21, ps_reserved_22, ps_reserved_23, pl_toldAt_0, ps_toldAt_0, pl_toldAt_1, ps_toldAt_1, ps_toldAt_2, ps_toldAt_3, pl_truths_0, px_c8, px_c10, px_c16, px_c20, px_c22, px_c30, px_c36, px_c38, px_c46, px_c54, px_c62, px_c65, px_c73, px_c81, px_c89, px_c97, px_c103, px_c109, px_c119, pr_tape, pln_tape, psn_tape, pr_s, pr_h, pln_h, psn_h, pr_read, pln_read, psn_read, pr_names, pln_names, psn_names, pr_reserved, pln_reserved, psn_reserved, pr_undone, pln_undone, psn_undone, pr_before, pln_before, psn_before, pr_sat, pln_sat, psn_sat, pr_toldAt, pln_toldAt, psn_toldAt, pr_stack, pln_stack, psn_stack, pr_truths, pln_truths, psn_truths, pr_kept, pln_kept, psn_kept, pr_namesKept, pln_namesKept, psn_namesKept, pr_areKept, pln_areKept, psn_areKept, px_c1r, px_rc, px_cI, px_cR, px_cV, px_ckz, px_ckz0, px_ckz1, px_getJ, px_putJ, cz_leti, cz_jn, pg_thrown, pp_thrown, pg_length, pp_length, pg_size, pp_size, pg_p, pp_p, pg_limit, pp_limit, pg_token, pp_token, pg_at, pp_at, pg_span, pp_span, pg_number, pp_number, pg_fault, pp_fault, pg_faultAt, pp_faultAt, pg_got, pp_got, pg_lines, pp_lines, pg_onces, pp_onces, pg_undoMany, pp_undoMany, pg_laidSet, pp_laidSet, pg_hasLaid, pp_hasLaid, pg_turnSet, pp_turnSet, pg_hasTurns, pp_hasTurns, pg_frostDay, pp_frostDay, pg_surelySet, pp_surelySet, pg_neverSet, pp_neverSet, pg_hasHooks, pp_hasHooks, pg_priceNow, pp_priceNow, pg_hasPrice, pp_hasPrice, pg_seed, pp_seed, pg_toldMany, pp_toldMany, pg_hasTold, pp_hasTold, pg_codes, pp_codes, pg_ones, pp_ones, pg_top, pp_top, pg_deep, pp_deep, pg_isWhole, pp_isWhole, px_SAne, px_SL, px_SI, px_SW, px_S1, px_S2, px_S4, px_S3]
    rw [if_pos h0]
  by_cases h1 : S < (1 : Int32) <<< (Int32.ofNat (sp_n s 2) &&& 31)
  · obtain ⟨v, hv, ev⟩ := px_set_lt g8 h0 h1
    have com : fn_X1_bribes (some x) S (cx_set h x X) = if (Q.foldl (fun a q => sp_brS S (Int32.ofNat q) a) (0, 0, 1)).1 = S then some (.inl (some (cz_i (Q.foldl (fun a q => sp_brS S (Int32.ofNat q) a) (0, 0, 1)).2.1)), cx_set h x X) else some (.inl (some (cz_i (-1))), cx_set h x X) := by
      rw [fn_X1_bribes, if_neg h0, cx_rc, cm_coats hc H, px_cI, if_pos h1]
      refine (cm_bribes_26 h8 hN2 hq Q.length 1000 0 0 0 1 (Nat.zero_add _) (by omega)).trans ?_
      rw [sp_fold_list (F := sp_brS S) Q 0 _ (fun i hi => by rw [Nat.zero_add]; exact hQ.2.2.2.1 i hi)]
    have hq8 : ∀ q ∈ Q, q < 8 := fun q hq => by have := hQ.2.1 q hq; omega
    have inQ : ∀ j, (sp_coatsAt s 20).toBitVec.getLsbD j = true ↔ j ∈ Q := by
      intro j
      by_cases hj : j < 32
      · rw [sp_coatsAt_bit g8 hj, decide_eq_true_eq]
        constructor
        · intro q; exact (hQ.2.2.2.2 j q.1).mpr q.2
        · intro q; exact ⟨hQ.2.1 j q, (hQ.2.2.2.2 j (hQ.2.1 j q)).mp q⟩
      · rw [BitVec.getLsbD_of_ge _ _ (by omega)]
        exact ⟨fun q => absurd q (by decide), fun q => by have := hq8 j q; omega⟩
    have bbS : ∀ j, j < 32 → sp_bb S j = S.toBitVec.getLsbD j := by
      intro j hj
      unfold sp_bb
      by_cases e : S.toBitVec.getLsbD j = true
      · rw [decide_eq_true (by rw [px_bit hj]; exact e), e]
      · rw [decide_eq_false (by rw [px_bit hj]; exact e)]
        simp at e
        rw [e]
    have thS : ((Q.foldl (fun a q => sp_brS S (Int32.ofNat q) a) (0, 0, 1)).1 = S) ↔ ∀ j, j < 32 → S.toBitVec.getLsbD j = true → j ∈ Q := by
      constructor
      · intro e j hj hb
        have := sp_br_there (S := S) hj Q (0, 0, 1) hq8
        rw [e, hb] at this
        have z : (0 : Int32).toBitVec.getLsbD j = false := by show (0#32).getLsbD j = false; simp
        rw [z, Bool.false_or] at this
        exact (of_decide_eq_true this.symm).1
      · intro e
        apply px_set_ext
        intro j hj
        rw [sp_br_there (S := S) hj Q (0, 0, 1) hq8]
        have z : (0 : Int32).toBitVec.getLsbD j = false := by show (0#32).getLsbD j = false; simp
        rw [z, Bool.false_or, bbS j hj]
        by_cases hb : S.toBitVec.getLsbD j = true
        · rw [hb]; exact decide_eq_true ⟨e j hj hb, rfl⟩
        · simp at hb
          rw [hb]; exact decide_eq_false (fun q => by simp at q)
    have inS : ((S &&& (sp_coatsAt s 20 ^^^ (-1))) = 0) ↔ ∀ j, j < 32 → S.toBitVec.getLsbD j = true → j ∈ Q := by
      constructor
      · intro e j hj hb
        have := congrArg (fun z : Int32 => z.toBitVec.getLsbD j) e
        rw [Int32.toBitVec_and, BitVec.getLsbD_and, hb, Bool.true_and, px_not_bit hj] at this
        have z : (0 : Int32).toBitVec.getLsbD j = false := by show (0#32).getLsbD j = false; simp
        rw [z] at this
        exact (inQ j).mp (by simpa using this)
      · intro e
        apply px_set_ext
        intro j hj
        have z : (0 : Int32).toBitVec.getLsbD j = false := by show (0#32).getLsbD j = false; simp
        rw [z, Int32.toBitVec_and, BitVec.getLsbD_and, px_not_bit hj]
        by_cases hb : S.toBitVec.getLsbD j = true
        · rw [(inQ j).mpr (e j hj hb)]; simp
        · simp at hb
          rw [hb]; simp
    have ref : ∀ (g : cz_H) (m : Nat), g.1.1 ≤ m → fn_X5_bribes (some m) S (px_set g m (px_S M s)) = if (S &&& (sp_coatsAt s 20 ^^^ (-1))) = 0 then some (.inl (some (cz_i (Int32.ofNat (sp_pop v) - Int32.ofNat (Q.takeWhile (sp_bb S)).length))), px_set g m (px_S (px_I M 0 0) s)) else some (.inl (some (cz_i (-1))), px_set g m (px_S (px_I M 0 0) s)) := by
      intro g m hb
      rw [fn_X5_bribes]
      simp (disch := first | assumption | omega) only [qln, qsn, ql_0, ql_1, ql_2, ql_3, ql_4, ql_5, ql_6, ql_7, ql_62, qs_62, ql_63, qs_63, ql_64, qs_64, ql_117, qs_117, ql_118, qs_118, pl_h_0, ps_h_0, pl_h_1, ps_h_1, pl_h_2, ps_h_2, ps_h_4, ps_h_5, ps_h_6, pl_h_7, ps_h_7, ps_reserved_0, ps_reserved_1, ps_reserved_2, ps_reserved_3, ps_reserved_4, ps_reserved_5, ps_reserved_6, ps_reserved_7, ps_reserved_8, ps_reserved_9, ps_reserved_10, ps_reserved_11, ps_reserved_12, ps_reserved_13, ps_reserved_14, ps_reserved_15, ps_reserved_16, ps_reserved_17, ps_reserved_18, ps_reserved_19, ps_reserved_20, ps_reserved_21, ps_reserved_22, ps_reserved_23, pl_toldAt_0, ps_toldAt_0, pl_toldAt_1, ps_toldAt_1, ps_toldAt_2, ps_toldAt_3, pl_truths_0, px_c8, px_c10, px_c16, px_c20, px_c22, px_c30, px_c36, px_c38, px_c46, px_c54, px_c62, px_c65, px_c73, px_c81, px_c89, px_c97, px_c103, px_c109, px_c119, pr_tape, pln_tape, psn_tape, pr_s, pr_h, pln_h, psn_h, pr_read, pln_read, psn_read, pr_names, pln_names, psn_names, pr_reserved, pln_reserved, psn_reserved, pr_undone, pln_undone, psn_undone, pr_before, pln_before, psn_before, pr_sat, pln_sat, psn_sat, pr_toldAt, pln_toldAt, psn_toldAt, pr_stack, pln_stack, psn_stack, pr_truths, pln_truths, psn_truths, pr_kept, pln_kept, psn_kept, pr_namesKept, pln_namesKept, psn_namesKept, pr_areKept, pln_areKept, psn_areKept, px_c1r, px_rc, px_cI, px_cR, px_cV, px_ckz, px_ckz0, px_ckz1, px_getJ, px_putJ, cz_leti, cz_jn, pg_thrown, pp_thrown, pg_length, pp_length, pg_size, pp_size, pg_p, pp_p, pg_limit, pp_limit, pg_token, pp_token, pg_at, pp_at, pg_span, pp_span, pg_number, pp_number, pg_fault, pp_fault, pg_faultAt, pp_faultAt, pg_got, pp_got, pg_lines, pp_lines, pg_onces, pp_onces, pg_undoMany, pp_undoMany, pg_laidSet, pp_laidSet, pg_hasLaid, pp_hasLaid, pg_turnSet, pp_turnSet, pg_hasTurns, pp_hasTurns, pg_frostDay, pp_frostDay, pg_surelySet, pp_surelySet, pg_neverSet, pp_neverSet, pg_hasHooks, pp_hasHooks, pg_priceNow, pp_priceNow, pg_hasPrice, pp_hasPrice, pg_seed, pp_seed, pg_toldMany, pp_toldMany, pg_hasTold, pp_hasTold, pg_codes, pp_codes, pg_ones, pp_ones, pg_top, pp_top, pg_deep, pp_deep, pg_isWhole, pp_isWhole, px_SAne, px_SL, px_SI, px_SW, px_S1, px_S2, px_S4, px_S3, pm_coatsAt ok]
      rw [if_neg h0, ok.2.2.1.1, if_neg (Int32.not_le.mpr h1)]
      split
      · refine (pm_bribes_38 (M := px_I M 0 0) h8 hN Q.length 1000 0 (Nat.zero_add _) (by omega)).trans ?_
        have e : sp_run (fun k => decide (((S >>> (s (109 + k) &&& 31)) &&& 1) = 1)) Q.length 0 = 0 + (Q.takeWhile (sp_bb S)).length := sp_run_list Q 0 (fun i hi => by
          rw [Nat.zero_add, hQ.2.2.2.1 i hi]
          rfl)
        rw [e, Nat.zero_add, ev, pm_bits hv, px_cI]
      · rfl
    by_cases sub : ∀ j, j < 32 → S.toBitVec.getLsbD j = true → j ∈ Q
    · refine ⟨_, by rw [com, if_pos (thS.mpr sub)], fun g m hb => ?_⟩
      rw [ref g m hb, if_pos (inS.mpr sub)]
      have n1 := sp_br_n1 (S := S) Q 0 0
      have pp : sp_pop v = (Q.filter (sp_bb S)).length := by
        unfold sp_pop
        apply List.Perm.length_eq
        apply (List.perm_ext_iff_of_nodup (List.Pairwise.filter _ List.nodup_range) (List.Pairwise.filter _ hQ.1)).mpr
        intro j
        rw [List.mem_filter, List.mem_filter, List.mem_range]
        constructor
        · rintro ⟨j8, hb⟩
          have hS : S.toBitVec.getLsbD j = true := by rw [ev, px_tb (by omega)]; exact hb
          exact ⟨sub j (by omega) hS, by rw [bbS j (by omega)]; exact hS⟩
        · rintro ⟨jQ, hb⟩
          have j8 := hq8 j jQ
          rw [bbS j (by omega), ev, px_tb (by omega)] at hb
          exact ⟨j8, hb⟩
      rw [pp]
      have : (Q.foldl (fun a q => sp_brS S (Int32.ofNat q) a) (0, 0, 1)).2.1 = Int32.ofNat (Q.filter (sp_bb S)).length - Int32.ofNat (Q.takeWhile (sp_bb S)).length := by
        rw [Int32.zero_add] at n1
        rw [← n1, Int32.add_sub_cancel]
      rw [this]
    · exact ⟨-1, by rw [com, if_neg (fun q => sub (thS.mp q))], fun g m hb => by rw [ref g m hb, if_neg (fun q => sub (inS.mp q))]⟩
  · refine ⟨-1, by rw [fn_X1_bribes, if_neg h0, cx_rc, cm_coats hc H, px_cI, if_neg h1], fun g m hb => ?_⟩
    rw [fn_X5_bribes]
    simp (disch := first | assumption | omega) only [qln, qsn, ql_0, ql_1, ql_2, ql_3, ql_4, ql_5, ql_6, ql_7, ql_62, qs_62, ql_63, qs_63, ql_64, qs_64, ql_117, qs_117, ql_118, qs_118, pl_h_0, ps_h_0, pl_h_1, ps_h_1, pl_h_2, ps_h_2, ps_h_4, ps_h_5, ps_h_6, pl_h_7, ps_h_7, ps_reserved_0, ps_reserved_1, ps_reserved_2, ps_reserved_3, ps_reserved_4, ps_reserved_5, ps_reserved_6, ps_reserved_7, ps_reserved_8, ps_reserved_9, ps_reserved_10, ps_reserved_11, ps_reserved_12, ps_reserved_13, ps_reserved_14, ps_reserved_15, ps_reserved_16, ps_reserved_17, ps_reserved_18, ps_reserved_19, ps_reserved_20, ps_reserved_21, ps_reserved_22, ps_reserved_23, pl_toldAt_0, ps_toldAt_0, pl_toldAt_1, ps_toldAt_1, ps_toldAt_2, ps_toldAt_3, pl_truths_0, px_c8, px_c10, px_c16, px_c20, px_c22, px_c30, px_c36, px_c38, px_c46, px_c54, px_c62, px_c65, px_c73, px_c81, px_c89, px_c97, px_c103, px_c109, px_c119, pr_tape, pln_tape, psn_tape, pr_s, pr_h, pln_h, psn_h, pr_read, pln_read, psn_read, pr_names, pln_names, psn_names, pr_reserved, pln_reserved, psn_reserved, pr_undone, pln_undone, psn_undone, pr_before, pln_before, psn_before, pr_sat, pln_sat, psn_sat, pr_toldAt, pln_toldAt, psn_toldAt, pr_stack, pln_stack, psn_stack, pr_truths, pln_truths, psn_truths, pr_kept, pln_kept, psn_kept, pr_namesKept, pln_namesKept, psn_namesKept, pr_areKept, pln_areKept, psn_areKept, px_c1r, px_rc, px_cI, px_cR, px_cV, px_ckz, px_ckz0, px_ckz1, px_getJ, px_putJ, cz_leti, cz_jn, pg_thrown, pp_thrown, pg_length, pp_length, pg_size, pp_size, pg_p, pp_p, pg_limit, pp_limit, pg_token, pp_token, pg_at, pp_at, pg_span, pp_span, pg_number, pp_number, pg_fault, pp_fault, pg_faultAt, pp_faultAt, pg_got, pp_got, pg_lines, pp_lines, pg_onces, pp_onces, pg_undoMany, pp_undoMany, pg_laidSet, pp_laidSet, pg_hasLaid, pp_hasLaid, pg_turnSet, pp_turnSet, pg_hasTurns, pp_hasTurns, pg_frostDay, pp_frostDay, pg_surelySet, pp_surelySet, pg_neverSet, pp_neverSet, pg_hasHooks, pp_hasHooks, pg_priceNow, pp_priceNow, pg_hasPrice, pp_hasPrice, pg_seed, pp_seed, pg_toldMany, pp_toldMany, pg_hasTold, pp_hasTold, pg_codes, pp_codes, pg_ones, pp_ones, pg_top, pp_top, pg_deep, pp_deep, pg_isWhole, pp_isWhole, px_SAne, px_SL, px_SI, px_SW, px_S1, px_S2, px_S4, px_S3]
    rw [if_neg h0, ok.2.2.1.1, if_pos (Int32.not_lt.mp h1)]
end BRA
