/-! THE PLAIN LAW, 46: hooks -/
set_option maxRecDepth 100000
abbrev sp_man (s : Nat → Int32) (y : Int32) : Prop := 0 ≤ y ∧ y ≤ Int32.ofNat (sp_n s 1) - 1
def sp_sat (s t : Nat → Int32) : Nat → Nat → (Nat → Int32) → Bool × (Nat → Int32)
  | 0, _, g => (true, g)
  | n + 1, k, g => if t k &&& 255 = 9 then sp_sat s t n (k + 1) g else if sp_man s (t k &&& 255) then sp_sat s t n (k + 1) (upd g (t k &&& 255).toNatClampNeg (g (t k &&& 255).toNatClampNeg + 1)) else (false, g)
def sp_cnt (t : Nat → Int32) (y : Int32) : Nat → Nat → Nat → Nat := sp_fold (fun k a => if t k &&& 255 = y then a + 1 else a)
theorem sp_cnt_le {t : Nat → Int32} {y : Int32} : ∀ (n k a : Nat), sp_cnt t y n k a ≤ a + n := by
  intro n
  induction n with
  | zero => intro k a; exact Nat.le_refl _
  | succ n ih =>
    intro k a
    have e : sp_cnt t y (n + 1) k a = sp_cnt t y n (k + 1) (if t k &&& 255 = y then a + 1 else a) := rfl
    have := ih (k + 1) (if t k &&& 255 = y then a + 1 else a)
    rw [e]
    split at this
    · rename_i q; rw [if_pos q]; omega
    · rename_i q; rw [if_neg q]; omega
theorem sp_sat_is {s t : Nat → Int32} (h6 : sp_n s 1 ≤ 6) : ∀ (n k : Nat) (g : Nat → Int32) (a : Nat → Nat), (∀ j, j < 6 → g j = Int32.ofNat (a j)) → (sp_sat s t n k g).1 = true → ∀ j, j < 6 → (sp_sat s t n k g).2 j = Int32.ofNat (sp_cnt t (Int32.ofNat j) n k (a j)) := by
  intro n
  induction n with
  | zero => intro k g a hg _ j hj; exact hg j hj
  | succ n ih =>
    intro k g a hg ht j hj
    have e : sp_cnt t (Int32.ofNat j) (n + 1) k (a j) = sp_cnt t (Int32.ofNat j) n (k + 1) (if t k &&& 255 = Int32.ofNat j then a j + 1 else a j) := rfl
    rw [e]
    rw [sp_sat] at ht ⊢
    by_cases e9 : t k &&& 255 = 9
    · rw [if_pos e9] at ht ⊢
      have : ¬ t k &&& 255 = Int32.ofNat j := by rw [e9]; exact px_small (p := 9) (by decide) (by omega) (by omega)
      rw [if_neg this]
      exact ih (k + 1) g a hg ht j hj
    · rw [if_neg e9] at ht ⊢
      by_cases em : sp_man s (t k &&& 255)
      · rw [if_pos em] at ht ⊢
        have em2 : 0 ≤ t k &&& 255 ∧ t k &&& 255 ≤ Int32.ofNat (sp_n s 1) - 1 := em
        rw [px_range (by omega)] at em2
        obtain ⟨i, hi, ei⟩ := em2
        rw [ei, Int32.toNatClampNeg_ofNat_of_lt (show i < 2 ^ 31 by omega)] at ht ⊢
        have := ih (k + 1) (upd g i (g i + 1)) (fun q => if q = i then a q + 1 else a q) (fun q hq => by
          by_cases eq : q = i
          · subst eq; rw [px_ueq, if_pos rfl, hg q hq, px_c1r]
          · rw [px_une eq, if_neg eq]; exact hg q hq) ht j hj
        rw [this]
        congr 2
        by_cases ej : j = i
        · subst ej; rw [if_pos rfl, if_pos rfl]
        · rw [if_neg ej, if_neg (px_small (by omega) (by omega) (fun q => ej q.symm))]
      · rw [if_neg em] at ht
        cases ht
def sp_ways (p : Nat) : Nat → Nat → Int32 → Int32 := sp_fold (fun i w => w * sp_max0 (Int32.ofNat p - Int32.ofNat i))
/-- ways, all, none: one man -/
def sp_hk1 (s t : Nat → Int32) (N m : Nat) (a : Int32 × Int32 × Int32) : Int32 × Int32 × Int32 :=
  (sp_ways (sp_pop (sp_coatsOf s (Int32.ofNat m)).toNatClampNeg) (sp_cnt t (Int32.ofNat m) N 0 0) 0 a.1,
   if sp_cnt t (Int32.ofNat m) N 0 0 = sp_pop (sp_coatsOf s (Int32.ofNat m)).toNatClampNeg then a.2.1 ||| sp_coatsOf s (Int32.ofNat m) else a.2.1,
   if sp_cnt t (Int32.ofNat m) N 0 0 = 0 then a.2.2 ||| sp_coatsOf s (Int32.ofNat m) else a.2.2)
theorem sp_coatsOf_256 {s : Nat → Int32} {y : Int32} (h8 : sp_n s 2 ≤ 8) : ∃ v, v < 256 ∧ sp_coatsOf s y = Int32.ofNat v := by
  obtain ⟨v, h1, h2, -⟩ := sp_set_256 (p := fun c => s (22 + c) = y) h8
  exact ⟨v, h1, h2⟩
section HKA
variable {h g : cz_H} {x c m : Nat} {X : cx_X} {s : Nat → Int32} {nm : Nat → Int64} {M : px_M}
theorem pm_octet {k : Nat} (hk : k < 940) : fn_X5_octet (some m) (Int32.ofNat k) (px_set g m (px_S M s)) = some (.inl (some (cz_i (M.2.2.1 1 k &&& 255))), px_set g m (px_S M s)) := by
  rw [fn_X5_octet]
  simp (disch := first | assumption | omega) only [qln, qsn, ql_0, ql_1, ql_2, ql_3, ql_4, ql_5, ql_6, ql_7, ql_62, qs_62, ql_63, qs_63, ql_64, qs_64, ql_117, qs_117, ql_118, qs_118, pl_h_0, ps_h_0, pl_h_1, ps_h_1, pl_h_2, ps_h_2, ps_h_4, ps_h_5, ps_h_6, pl_h_7, ps_h_7, ps_reserved_0, ps_reserved_1, ps_reserved_2, ps_reserved_3, ps_reserved_4, ps_reserved_5, ps_reserved_6, ps_reserved_7, ps_reserved_8, ps_reserved_9, ps_reserved_10, ps_reserved_11, ps_reserved_12, ps_reserved_13, ps_reserved_14, ps_reserved_15, ps_reserved_16, ps_reserved_17, ps_reserved_18, ps_reserved_19, ps_reserved_20, ps_reserved_21, ps_reserved_22, ps_reserved_23, pl_toldAt_0, ps_toldAt_0, pl_toldAt_1, ps_toldAt_1, ps_toldAt_2, ps_toldAt_3, pl_truths_0, px_c8, px_c10, px_c16, px_c20, px_c22, px_c30, px_c36, px_c38, px_c46, px_c54, px_c62, px_c65, px_c73, px_c81, px_c89, px_c97, px_c103, px_c109, px_c119, pr_tape, pln_tape, psn_tape, pr_s, pr_h, pln_h, psn_h, pr_read, pln_read, psn_read, pr_names, pln_names, psn_names, pr_reserved, pln_reserved, psn_reserved, pr_undone, pln_undone, psn_undone, pr_before, pln_before, psn_before, pr_sat, pln_sat, psn_sat, pr_toldAt, pln_toldAt, psn_toldAt, pr_stack, pln_stack, psn_stack, pr_truths, pln_truths, psn_truths, pr_kept, pln_kept, psn_kept, pr_namesKept, pln_namesKept, psn_namesKept, pr_areKept, pln_areKept, psn_areKept, px_c1r, px_rc, px_cI, px_cR, px_cV, px_ckz, px_ckz0, px_ckz1, px_getJ, px_putJ, cz_leti, cz_jn, pg_thrown, pp_thrown, pg_length, pp_length, pg_size, pp_size, pg_p, pp_p, pg_limit, pp_limit, pg_token, pp_token, pg_at, pp_at, pg_span, pp_span, pg_number, pp_number, pg_fault, pp_fault, pg_faultAt, pp_faultAt, pg_got, pp_got, pg_lines, pp_lines, pg_onces, pp_onces, pg_undoMany, pp_undoMany, pg_laidSet, pp_laidSet, pg_hasLaid, pp_hasLaid, pg_turnSet, pp_turnSet, pg_hasTurns, pp_hasTurns, pg_frostDay, pp_frostDay, pg_surelySet, pp_surelySet, pg_neverSet, pp_neverSet, pg_hasHooks, pp_hasHooks, pg_priceNow, pp_priceNow, pg_hasPrice, pp_hasPrice, pg_seed, pp_seed, pg_toldMany, pp_toldMany, pg_hasTold, pp_hasTold, pg_codes, pp_codes, pg_ones, pp_ones, pg_top, pp_top, pg_deep, pp_deep, pg_isWhole, pp_isWhole, px_SAne, px_SL, px_SI, px_SW, px_S1, px_S2, px_S4, px_S3]
theorem cm_onTape {k : Nat} (hk : k < 940) : fn_X1_onTape (some x) (Int32.ofNat k) (cx_set h x X) = some (.inl (some (cz_i (X.2.2.1 0 k &&& 255))), cx_set h x X) := by
  rw [fn_X1_onTape, cg_tape, cl_tape hk]
def sp_zs : Nat → Nat → (Nat → Int32) → Nat → Int32 := sp_fold (fun k g => upd g k 0)
theorem pm_hooks_36 {k0 : cz_H → cz_Z} (hb : g.1.1 ≤ m) : ∀ (n f k : Nat) (z : Nat → Int32), k + n = 6 → n < f → fn_X5_hooks_36 (some m) k0 f (Int32.ofNat k) (px_set g m (px_S (px_B M 32 z) s)) = k0 (px_set g m (px_S (px_B M 32 (sp_zs n k z)) s)) := by
  intro n
  induction n with
  | zero =>
    intro f k z hk hf
    obtain ⟨f, rfl⟩ : ∃ g, f = g + 1 := ⟨f - 1, by omega⟩
    rw [fn_X5_hooks_36, show (6 : Int32) = Int32.ofNat 6 from rfl, if_pos (by rw [px_le (by omega) (by omega)]; omega)]
    rfl
  | succ n ih =>
    intro f k z hk hf
    obtain ⟨f, rfl⟩ : ∃ g, f = g + 1 := ⟨f - 1, by omega⟩
    rw [fn_X5_hooks_36, if_neg (by rw [show (6 : Int32) = Int32.ofNat 6 from rfl, px_le (by omega) (by omega)]; omega)]
    simp (disch := first | assumption | omega) only [qln, qsn, ql_0, ql_1, ql_2, ql_3, ql_4, ql_5, ql_6, ql_7, ql_62, qs_62, ql_63, qs_63, ql_64, qs_64, ql_117, qs_117, ql_118, qs_118, pl_h_0, ps_h_0, pl_h_1, ps_h_1, pl_h_2, ps_h_2, ps_h_4, ps_h_5, ps_h_6, pl_h_7, ps_h_7, ps_reserved_0, ps_reserved_1, ps_reserved_2, ps_reserved_3, ps_reserved_4, ps_reserved_5, ps_reserved_6, ps_reserved_7, ps_reserved_8, ps_reserved_9, ps_reserved_10, ps_reserved_11, ps_reserved_12, ps_reserved_13, ps_reserved_14, ps_reserved_15, ps_reserved_16, ps_reserved_17, ps_reserved_18, ps_reserved_19, ps_reserved_20, ps_reserved_21, ps_reserved_22, ps_reserved_23, pl_toldAt_0, ps_toldAt_0, pl_toldAt_1, ps_toldAt_1, ps_toldAt_2, ps_toldAt_3, pl_truths_0, px_c8, px_c10, px_c16, px_c20, px_c22, px_c30, px_c36, px_c38, px_c46, px_c54, px_c62, px_c65, px_c73, px_c81, px_c89, px_c97, px_c103, px_c109, px_c119, pr_tape, pln_tape, psn_tape, pr_s, pr_h, pln_h, psn_h, pr_read, pln_read, psn_read, pr_names, pln_names, psn_names, pr_reserved, pln_reserved, psn_reserved, pr_undone, pln_undone, psn_undone, pr_before, pln_before, psn_before, pr_sat, pln_sat, psn_sat, pr_toldAt, pln_toldAt, psn_toldAt, pr_stack, pln_stack, psn_stack, pr_truths, pln_truths, psn_truths, pr_kept, pln_kept, psn_kept, pr_namesKept, pln_namesKept, psn_namesKept, pr_areKept, pln_areKept, psn_areKept, px_c1r, px_rc, px_cI, px_cR, px_cV, px_ckz, px_ckz0, px_ckz1, px_getJ, px_putJ, cz_leti, cz_jn, pg_thrown, pp_thrown, pg_length, pp_length, pg_size, pp_size, pg_p, pp_p, pg_limit, pp_limit, pg_token, pp_token, pg_at, pp_at, pg_span, pp_span, pg_number, pp_number, pg_fault, pp_fault, pg_faultAt, pp_faultAt, pg_got, pp_got, pg_lines, pp_lines, pg_onces, pp_onces, pg_undoMany, pp_undoMany, pg_laidSet, pp_laidSet, pg_hasLaid, pp_hasLaid, pg_turnSet, pp_turnSet, pg_hasTurns, pp_hasTurns, pg_frostDay, pp_frostDay, pg_surelySet, pp_surelySet, pg_neverSet, pp_neverSet, pg_hasHooks, pp_hasHooks, pg_priceNow, pp_priceNow, pg_hasPrice, pp_hasPrice, pg_seed, pp_seed, pg_toldMany, pp_toldMany, pg_hasTold, pp_hasTold, pg_codes, pp_codes, pg_ones, pp_ones, pg_top, pp_top, pg_deep, pp_deep, pg_isWhole, pp_isWhole, px_SAne, px_SL, px_SI, px_SW, px_S1, px_S2, px_S4, px_S3, px_AB]
    exact ih f (k + 1) _ (by omega) (by omega)
theorem sp_zs_at : ∀ (n k : Nat) (z : Nat → Int32) (j : Nat), sp_zs n k z j = if k ≤ j ∧ j < k + n then 0 else z j := by
  intro n
  induction n with
  | zero => intro k z j; rw [if_neg (by omega)]; rfl
  | succ n ih =>
    intro k z j
    have e : sp_zs (n + 1) k z = sp_zs n (k + 1) (upd z k 0) := rfl
    rw [e, ih]
    by_cases h1 : j = k
    · subst h1
      rw [if_neg (by omega), if_pos (by omega), px_ueq]
    · by_cases h2 : k + 1 ≤ j ∧ j < k + 1 + n
      · rw [if_pos h2, if_pos (by omega)]
      · rw [if_neg h2, if_neg (by omega), px_une h1]
theorem pm_hooks_57 {N : Nat} {k0 k1 : cz_H → cz_Z} (hb : g.1.1 ≤ m) (ok : sp_ok s) (hN : M.1 3 = Int32.ofNat N) (h8 : N ≤ 8) : ∀ (n f k : Nat) (z : Nat → Int32), k + n = N → n < f → fn_X5_hooks_57 (some m) k0 k1 f (Int32.ofNat k) (px_set g m (px_S (px_B M 32 z) s)) = (if (sp_sat s (M.2.2.1 1) n k z).1 = true then k1 (px_set g m (px_S (px_B M 32 (sp_sat s (M.2.2.1 1) n k z).2) s)) else k0 (px_set g m (px_S (px_B M 32 (sp_sat s (M.2.2.1 1) n k z).2) s))) := by
  have h6 := ok.2.1.2
  intro n
  induction n with
  | zero =>
    intro f k z hk hf
    obtain ⟨f, rfl⟩ : ∃ g, f = g + 1 := ⟨f - 1, by omega⟩
    rw [fn_X5_hooks_57]
    simp (disch := first | assumption | omega) only [pg_size, px_S1, px_B1, hN]
    rw [if_pos (by rw [px_le (by omega) (by omega)]; omega)]
    rfl
  | succ n ih =>
    intro f k z hk hf
    obtain ⟨f, rfl⟩ : ∃ g, f = g + 1 := ⟨f - 1, by omega⟩
    rw [fn_X5_hooks_57]
    have oc : fn_X5_octet (some m) (Int32.ofNat k) (px_set g m (px_S (px_B M 32 z) s)) = some (.inl (some (cz_i (M.2.2.1 1 k &&& 255))), px_set g m (px_S (px_B M 32 z) s)) := pm_octet (M := px_B M 32 z) (by omega)
    simp (disch := first | assumption | omega) only [pg_size, px_S1, px_B1, hN, px_rc, oc, px_cI, cz_jn, cz_leti, px_c1r, pm_isMan ok, pr_sat]
    rw [if_neg (by rw [px_le (by omega) (by omega)]; omega), sp_sat]
    by_cases e9 : M.2.2.1 1 k &&& 255 = 9
    · (rw [if_pos e9, if_pos e9, if_pos e9]; exact ih f (k + 1) z (by omega) (by omega))
    rw [if_neg e9, if_neg e9, if_neg e9]
    by_cases em : sp_man s (M.2.2.1 1 k &&& 255)
    rotate_left
    · (rw [if_neg (show ¬ (0 ≤ M.2.2.1 1 k &&& 255 ∧ M.2.2.1 1 k &&& 255 ≤ Int32.ofNat (sp_n s 1) - 1) from em), if_pos rfl, if_neg em, if_neg (show ¬ (false = true) by decide)])
    rw [if_pos (show 0 ≤ M.2.2.1 1 k &&& 255 ∧ M.2.2.1 1 k &&& 255 ≤ Int32.ofNat (sp_n s 1) - 1 from em), if_neg (by decide), if_pos em]
    have em2 : 0 ≤ M.2.2.1 1 k &&& 255 ∧ M.2.2.1 1 k &&& 255 ≤ Int32.ofNat (sp_n s 1) - 1 := em
    rw [px_range (by omega)] at em2
    obtain ⟨i, hi, ei⟩ := em2
    rw [ei, Int32.toNatClampNeg_ofNat_of_lt (show i < 2 ^ 31 by omega), pln_sat (by omega), psn_sat (by omega) hb, px_SAne (by decide), px_AB, px_S3 (by decide), px_B3]
    exact ih f (k + 1) _ (by omega) (by omega)
theorem cm_hooks_21 {N : Nat} {k0 k1 : cz_H → cz_Z} (hc : X.2.1 0 = some c) (H : cx_st h x X 0 c s nm) (h8 : N ≤ 8) : ∀ (n f k : Nat) (z : Nat → Int32), k + n = N → n < f → fn_X1_hooks_21 (some x) (Int32.ofNat N) k0 k1 f (Int32.ofNat k) (cx_set h x X) = (if (sp_sat s (X.2.2.1 0) n k z).1 = true then k1 (cx_set h x X) else k0 (cx_set h x X)) := by
  intro n
  induction n with
  | zero =>
    intro f k z hk hf
    obtain ⟨f, rfl⟩ : ∃ g, f = g + 1 := ⟨f - 1, by omega⟩
    rw [fn_X1_hooks_21, if_pos (by rw [px_le (by omega) (by omega)]; omega)]
    rfl
  | succ n ih =>
    intro f k z hk hf
    obtain ⟨f, rfl⟩ : ∃ g, f = g + 1 := ⟨f - 1, by omega⟩
    rw [fn_X1_hooks_21, if_neg (by rw [px_le (by omega) (by omega)]; omega), cx_rc, cm_onTape (by omega), px_cI, sp_sat]
    by_cases e9 : X.2.2.1 0 k &&& 255 = 9
    · (rw [if_pos e9, if_pos e9]; simp only [cz_leti, px_c1r]; exact ih f (k + 1) z (by omega) (by omega))
    rw [if_neg e9, if_neg e9, cx_rc, cm_onTape (by omega), px_cI, cx_rc, cm_isMan hc H, px_cI]
    by_cases em : sp_man s (X.2.2.1 0 k &&& 255)
    rotate_left
    · (rw [if_neg (show ¬ (0 ≤ X.2.2.1 0 k &&& 255 ∧ X.2.2.1 0 k &&& 255 ≤ Int32.ofNat (sp_n s 1) - 1) from em), if_pos rfl, if_neg em, if_neg (show ¬ (false = true) by decide)])
    rw [if_pos (show 0 ≤ X.2.2.1 0 k &&& 255 ∧ X.2.2.1 0 k &&& 255 ≤ Int32.ofNat (sp_n s 1) - 1 from em), if_neg (by decide), if_pos em]
    simp only [cz_leti, px_c1r]
    exact ih f (k + 1) _ (by omega) (by omega)
theorem pm_hooks_145 {y : Int32} {k0 : Int32 → cz_H → cz_Z} (ok : sp_ok s) : ∀ (n f k : Nat) (a : Int32), k + n = sp_n s 2 → n < f → fn_X5_hooks_145 (some m) y k0 f a (Int32.ofNat k) (px_set g m (px_S M s)) = k0 (sp_fold (fun c a => if s (22 + c) = y then a ||| ((1 : Int32) <<< (Int32.ofNat c &&& 31)) else a) n k a) (px_set g m (px_S M s)) := by
  have h8 := ok.2.2.1.2
  intro n
  induction n with
  | zero =>
    intro f k a hk hf
    obtain ⟨f, rfl⟩ : ∃ g, f = g + 1 := ⟨f - 1, by omega⟩
    rw [fn_X5_hooks_145]
    simp (disch := first | assumption | omega) only [qln, qsn, ql_0, ql_1, ql_2, ql_3, ql_4, ql_5, ql_6, ql_7, ql_62, qs_62, ql_63, qs_63, ql_64, qs_64, ql_117, qs_117, ql_118, qs_118, pl_h_0, ps_h_0, pl_h_1, ps_h_1, pl_h_2, ps_h_2, ps_h_4, ps_h_5, ps_h_6, pl_h_7, ps_h_7, ps_reserved_0, ps_reserved_1, ps_reserved_2, ps_reserved_3, ps_reserved_4, ps_reserved_5, ps_reserved_6, ps_reserved_7, ps_reserved_8, ps_reserved_9, ps_reserved_10, ps_reserved_11, ps_reserved_12, ps_reserved_13, ps_reserved_14, ps_reserved_15, ps_reserved_16, ps_reserved_17, ps_reserved_18, ps_reserved_19, ps_reserved_20, ps_reserved_21, ps_reserved_22, ps_reserved_23, pl_toldAt_0, ps_toldAt_0, pl_toldAt_1, ps_toldAt_1, ps_toldAt_2, ps_toldAt_3, pl_truths_0, px_c8, px_c10, px_c16, px_c20, px_c22, px_c30, px_c36, px_c38, px_c46, px_c54, px_c62, px_c65, px_c73, px_c81, px_c89, px_c97, px_c103, px_c109, px_c119, pr_tape, pln_tape, psn_tape, pr_s, pr_h, pln_h, psn_h, pr_read, pln_read, psn_read, pr_names, pln_names, psn_names, pr_reserved, pln_reserved, psn_reserved, pr_undone, pln_undone, psn_undone, pr_before, pln_before, psn_before, pr_sat, pln_sat, psn_sat, pr_toldAt, pln_toldAt, psn_toldAt, pr_stack, pln_stack, psn_stack, pr_truths, pln_truths, psn_truths, pr_kept, pln_kept, psn_kept, pr_namesKept, pln_namesKept, psn_namesKept, pr_areKept, pln_areKept, psn_areKept, px_c1r, px_rc, px_cI, px_cR, px_cV, px_ckz, px_ckz0, px_ckz1, px_getJ, px_putJ, cz_leti, cz_jn, pg_thrown, pp_thrown, pg_length, pp_length, pg_size, pp_size, pg_p, pp_p, pg_limit, pp_limit, pg_token, pp_token, pg_at, pp_at, pg_span, pp_span, pg_number, pp_number, pg_fault, pp_fault, pg_faultAt, pp_faultAt, pg_got, pp_got, pg_lines, pp_lines, pg_onces, pp_onces, pg_undoMany, pp_undoMany, pg_laidSet, pp_laidSet, pg_hasLaid, pp_hasLaid, pg_turnSet, pp_turnSet, pg_hasTurns, pp_hasTurns, pg_frostDay, pp_frostDay, pg_surelySet, pp_surelySet, pg_neverSet, pp_neverSet, pg_hasHooks, pp_hasHooks, pg_priceNow, pp_priceNow, pg_hasPrice, pp_hasPrice, pg_seed, pp_seed, pg_toldMany, pp_toldMany, pg_hasTold, pp_hasTold, pg_codes, pp_codes, pg_ones, pp_ones, pg_top, pp_top, pg_deep, pp_deep, pg_isWhole, pp_isWhole, px_SAne, px_SL, px_SI, px_SW, px_S1, px_S2, px_S4, px_S3]
    rw [ok.2.2.1.1, if_pos (by rw [px_le (by omega) (by omega)]; omega)]
    rfl
  | succ n ih =>
    intro f k a hk hf
    obtain ⟨f, rfl⟩ : ∃ g, f = g + 1 := ⟨f - 1, by omega⟩
    rw [fn_X5_hooks_145]
    simp (disch := first | assumption | omega) only [qln, qsn, ql_0, ql_1, ql_2, ql_3, ql_4, ql_5, ql_6, ql_7, ql_62, qs_62, ql_63, qs_63, ql_64, qs_64, ql_117, qs_117, ql_118, qs_118, pl_h_0, ps_h_0, pl_h_1, ps_h_1, pl_h_2, ps_h_2, ps_h_4, ps_h_5, ps_h_6, pl_h_7, ps_h_7, ps_reserved_0, ps_reserved_1, ps_reserved_2, ps_reserved_3, ps_reserved_4, ps_reserved_5, ps_reserved_6, ps_reserved_7, ps_reserved_8, ps_reserved_9, ps_reserved_10, ps_reserved_11, ps_reserved_12, ps_reserved_13, ps_reserved_14, ps_reserved_15, ps_reserved_16, ps_reserved_17, ps_reserved_18, ps_reserved_19, ps_reserved_20, ps_reserved_21, ps_reserved_22, ps_reserved_23, pl_toldAt_0, ps_toldAt_0, pl_toldAt_1, ps_toldAt_1, ps_toldAt_2, ps_toldAt_3, pl_truths_0, px_c8, px_c10, px_c16, px_c20, px_c22, px_c30, px_c36, px_c38, px_c46, px_c54, px_c62, px_c65, px_c73, px_c81, px_c89, px_c97, px_c103, px_c109, px_c119, pr_tape, pln_tape, psn_tape, pr_s, pr_h, pln_h, psn_h, pr_read, pln_read, psn_read, pr_names, pln_names, psn_names, pr_reserved, pln_reserved, psn_reserved, pr_undone, pln_undone, psn_undone, pr_before, pln_before, psn_before, pr_sat, pln_sat, psn_sat, pr_toldAt, pln_toldAt, psn_toldAt, pr_stack, pln_stack, psn_stack, pr_truths, pln_truths, psn_truths, pr_kept, pln_kept, psn_kept, pr_namesKept, pln_namesKept, psn_namesKept, pr_areKept, pln_areKept, psn_areKept, px_c1r, px_rc, px_cI, px_cR, px_cV, px_ckz, px_ckz0, px_ckz1, px_getJ, px_putJ, cz_leti, cz_jn, pg_thrown, pp_thrown, pg_length, pp_length, pg_size, pp_size, pg_p, pp_p, pg_limit, pp_limit, pg_token, pp_token, pg_at, pp_at, pg_span, pp_span, pg_number, pp_number, pg_fault, pp_fault, pg_faultAt, pp_faultAt, pg_got, pp_got, pg_lines, pp_lines, pg_onces, pp_onces, pg_undoMany, pp_undoMany, pg_laidSet, pp_laidSet, pg_hasLaid, pp_hasLaid, pg_turnSet, pp_turnSet, pg_hasTurns, pp_hasTurns, pg_frostDay, pp_frostDay, pg_surelySet, pp_surelySet, pg_neverSet, pp_neverSet, pg_hasHooks, pp_hasHooks, pg_priceNow, pp_priceNow, pg_hasPrice, pp_hasPrice, pg_seed, pp_seed, pg_toldMany, pp_toldMany, pg_hasTold, pp_hasTold, pg_codes, pp_codes, pg_ones, pp_ones, pg_top, pp_top, pg_deep, pp_deep, pg_isWhole, pp_isWhole, px_SAne, px_SL, px_SI, px_SW, px_S1, px_S2, px_S4, px_S3, Int32.or_zero]
    rw [ok.2.2.1.1, if_neg (by rw [px_le (by omega) (by omega)]; omega), sp_fold]
    split <;> exact ih f (k + 1) _ (by omega) (by omega)
theorem pm_hooks_193 {y v L : Nat} {k0 : Int32 → cz_H → cz_Z} (hv : v < 256) (hy : y < 6) (hL : M.2.2.1 32 y = Int32.ofNat L) (h8 : L ≤ 8) : ∀ (n f k : Nat) (a : Int32), k + n = L → n < f → fn_X5_hooks_193 (some m) (Int32.ofNat y) (Int32.ofNat v) k0 f a (Int32.ofNat k) (px_set g m (px_S M s)) = k0 (sp_ways (sp_pop v) n k a) (px_set g m (px_S M s)) := by
  intro n
  induction n with
  | zero =>
    intro f k a hk hf
    obtain ⟨f, rfl⟩ : ∃ g, f = g + 1 := ⟨f - 1, by omega⟩
    rw [fn_X5_hooks_193]
    simp (disch := first | assumption | omega) only [qln, qsn, ql_0, ql_1, ql_2, ql_3, ql_4, ql_5, ql_6, ql_7, ql_62, qs_62, ql_63, qs_63, ql_64, qs_64, ql_117, qs_117, ql_118, qs_118, pl_h_0, ps_h_0, pl_h_1, ps_h_1, pl_h_2, ps_h_2, ps_h_4, ps_h_5, ps_h_6, pl_h_7, ps_h_7, ps_reserved_0, ps_reserved_1, ps_reserved_2, ps_reserved_3, ps_reserved_4, ps_reserved_5, ps_reserved_6, ps_reserved_7, ps_reserved_8, ps_reserved_9, ps_reserved_10, ps_reserved_11, ps_reserved_12, ps_reserved_13, ps_reserved_14, ps_reserved_15, ps_reserved_16, ps_reserved_17, ps_reserved_18, ps_reserved_19, ps_reserved_20, ps_reserved_21, ps_reserved_22, ps_reserved_23, pl_toldAt_0, ps_toldAt_0, pl_toldAt_1, ps_toldAt_1, ps_toldAt_2, ps_toldAt_3, pl_truths_0, px_c8, px_c10, px_c16, px_c20, px_c22, px_c30, px_c36, px_c38, px_c46, px_c54, px_c62, px_c65, px_c73, px_c81, px_c89, px_c97, px_c103, px_c109, px_c119, pr_tape, pln_tape, psn_tape, pr_s, pr_h, pln_h, psn_h, pr_read, pln_read, psn_read, pr_names, pln_names, psn_names, pr_reserved, pln_reserved, psn_reserved, pr_undone, pln_undone, psn_undone, pr_before, pln_before, psn_before, pr_sat, pln_sat, psn_sat, pr_toldAt, pln_toldAt, psn_toldAt, pr_stack, pln_stack, psn_stack, pr_truths, pln_truths, psn_truths, pr_kept, pln_kept, psn_kept, pr_namesKept, pln_namesKept, psn_namesKept, pr_areKept, pln_areKept, psn_areKept, px_c1r, px_rc, px_cI, px_cR, px_cV, px_ckz, px_ckz0, px_ckz1, px_getJ, px_putJ, cz_leti, cz_jn, pg_thrown, pp_thrown, pg_length, pp_length, pg_size, pp_size, pg_p, pp_p, pg_limit, pp_limit, pg_token, pp_token, pg_at, pp_at, pg_span, pp_span, pg_number, pp_number, pg_fault, pp_fault, pg_faultAt, pp_faultAt, pg_got, pp_got, pg_lines, pp_lines, pg_onces, pp_onces, pg_undoMany, pp_undoMany, pg_laidSet, pp_laidSet, pg_hasLaid, pp_hasLaid, pg_turnSet, pp_turnSet, pg_hasTurns, pp_hasTurns, pg_frostDay, pp_frostDay, pg_surelySet, pp_surelySet, pg_neverSet, pp_neverSet, pg_hasHooks, pp_hasHooks, pg_priceNow, pp_priceNow, pg_hasPrice, pp_hasPrice, pg_seed, pp_seed, pg_toldMany, pp_toldMany, pg_hasTold, pp_hasTold, pg_codes, pp_codes, pg_ones, pp_ones, pg_top, pp_top, pg_deep, pp_deep, pg_isWhole, pp_isWhole, px_SAne, px_SL, px_SI, px_SW, px_S1, px_S2, px_S4, px_S3]
    rw [hL, if_pos (by rw [px_le (by omega) (by omega)]; omega)]
    rfl
  | succ n ih =>
    intro f k a hk hf
    obtain ⟨f, rfl⟩ : ∃ g, f = g + 1 := ⟨f - 1, by omega⟩
    rw [fn_X5_hooks_193]
    simp (disch := first | assumption | omega) only [qln, qsn, ql_0, ql_1, ql_2, ql_3, ql_4, ql_5, ql_6, ql_7, ql_62, qs_62, ql_63, qs_63, ql_64, qs_64, ql_117, qs_117, ql_118, qs_118, pl_h_0, ps_h_0, pl_h_1, ps_h_1, pl_h_2, ps_h_2, ps_h_4, ps_h_5, ps_h_6, pl_h_7, ps_h_7, ps_reserved_0, ps_reserved_1, ps_reserved_2, ps_reserved_3, ps_reserved_4, ps_reserved_5, ps_reserved_6, ps_reserved_7, ps_reserved_8, ps_reserved_9, ps_reserved_10, ps_reserved_11, ps_reserved_12, ps_reserved_13, ps_reserved_14, ps_reserved_15, ps_reserved_16, ps_reserved_17, ps_reserved_18, ps_reserved_19, ps_reserved_20, ps_reserved_21, ps_reserved_22, ps_reserved_23, pl_toldAt_0, ps_toldAt_0, pl_toldAt_1, ps_toldAt_1, ps_toldAt_2, ps_toldAt_3, pl_truths_0, px_c8, px_c10, px_c16, px_c20, px_c22, px_c30, px_c36, px_c38, px_c46, px_c54, px_c62, px_c65, px_c73, px_c81, px_c89, px_c97, px_c103, px_c109, px_c119, pr_tape, pln_tape, psn_tape, pr_s, pr_h, pln_h, psn_h, pr_read, pln_read, psn_read, pr_names, pln_names, psn_names, pr_reserved, pln_reserved, psn_reserved, pr_undone, pln_undone, psn_undone, pr_before, pln_before, psn_before, pr_sat, pln_sat, psn_sat, pr_toldAt, pln_toldAt, psn_toldAt, pr_stack, pln_stack, psn_stack, pr_truths, pln_truths, psn_truths, pr_kept, pln_kept, psn_kept, pr_namesKept, pln_namesKept, psn_namesKept, pr_areKept, pln_areKept, psn_areKept, px_c1r, px_rc, px_cI, px_cR, px_cV, px_ckz, px_ckz0, px_ckz1, px_getJ, px_putJ, cz_leti, cz_jn, pg_thrown, pp_thrown, pg_length, pp_length, pg_size, pp_size, pg_p, pp_p, pg_limit, pp_limit, pg_token, pp_token, pg_at, pp_at, pg_span, pp_span, pg_number, pp_number, pg_fault, pp_fault, pg_faultAt, pp_faultAt, pg_got, pp_got, pg_lines, pp_lines, pg_onces, pp_onces, pg_undoMany, pp_undoMany, pg_laidSet, pp_laidSet, pg_hasLaid, pp_hasLaid, pg_turnSet, pp_turnSet, pg_hasTurns, pp_hasTurns, pg_frostDay, pp_frostDay, pg_surelySet, pp_surelySet, pg_neverSet, pp_neverSet, pg_hasHooks, pp_hasHooks, pg_priceNow, pp_priceNow, pg_hasPrice, pp_hasPrice, pg_seed, pp_seed, pg_toldMany, pp_toldMany, pg_hasTold, pp_hasTold, pg_codes, pp_codes, pg_ones, pp_ones, pg_top, pp_top, pg_deep, pp_deep, pg_isWhole, pp_isWhole, px_SAne, px_SL, px_SI, px_SW, px_S1, px_S2, px_S4, px_S3, pm_bits hv, pm_greater0]
    rw [hL, if_neg (by rw [px_le (by omega) (by omega)]; omega)]
    exact ih f (k + 1) _ (by omega) (by omega)
theorem cm_hooks_81 {N : Nat} {y : Int32} {k0 : Int32 → cz_H → cz_Z} (h8 : N ≤ 8) : ∀ (n f k : Nat) (a : Nat), k + n = N → n < f → fn_X1_hooks_81 (some x) (Int32.ofNat N) y k0 f (Int32.ofNat a) (Int32.ofNat k) (cx_set h x X) = k0 (Int32.ofNat (sp_cnt (X.2.2.1 0) y n k a)) (cx_set h x X) := by
  intro n
  induction n with
  | zero =>
    intro f k a hk hf
    obtain ⟨f, rfl⟩ : ∃ g, f = g + 1 := ⟨f - 1, by omega⟩
    rw [fn_X1_hooks_81, if_pos (by rw [px_le (by omega) (by omega)]; omega)]
    rfl
  | succ n ih =>
    intro f k a hk hf
    obtain ⟨f, rfl⟩ : ∃ g, f = g + 1 := ⟨f - 1, by omega⟩
    rw [fn_X1_hooks_81, if_neg (by rw [px_le (by omega) (by omega)]; omega), cx_rc, cm_onTape (by omega), px_cI]
    simp only [cz_leti, px_c1r]
    have e : sp_cnt (X.2.2.1 0) y (n + 1) k a = sp_cnt (X.2.2.1 0) y n (k + 1) (if X.2.2.1 0 k &&& 255 = y then a + 1 else a) := rfl
    rw [e]
    split <;> exact ih f (k + 1) _ (by omega) (by omega)
theorem cm_hooks_128 {p L : Nat} {k0 : Int32 → cz_H → cz_Z} (h8 : L ≤ 8) : ∀ (n f k : Nat) (a : Int32), k + n = L → n < f → fn_X1_hooks_128 (Int32.ofNat L) (Int32.ofNat p) k0 f a (Int32.ofNat k) h = k0 (sp_ways p n k a) h := by
  intro n
  induction n with
  | zero =>
    intro f k a hk hf
    obtain ⟨f, rfl⟩ : ∃ g, f = g + 1 := ⟨f - 1, by omega⟩
    rw [fn_X1_hooks_128, if_pos (by rw [px_le (by omega) (by omega)]; omega)]
    rfl
  | succ n ih =>
    intro f k a hk hf
    obtain ⟨f, rfl⟩ : ∃ g, f = g + 1 := ⟨f - 1, by omega⟩
    rw [fn_X1_hooks_128, if_neg (by rw [px_le (by omega) (by omega)]; omega), pc_max0, px_cI]
    simp only [cz_leti, px_c1r]
    exact ih f (k + 1) _ (by omega) (by omega)
theorem pm_hooks_128 {N : Nat} {k0 : Int32 → Int32 → Int32 → cz_H → cz_Z} {t : Nat → Int32} (ok : sp_ok s) (h8 : N ≤ 8) (hz : ∀ j, j < 6 → M.2.2.1 32 j = Int32.ofNat (sp_cnt t (Int32.ofNat j) N 0 0)) : ∀ (n f k : Nat) (a : Int32 × Int32 × Int32), k + n = sp_n s 1 → n < f → fn_X5_hooks_128 (some m) k0 f a.1 a.2.1 a.2.2 (Int32.ofNat k) (px_set g m (px_S M s)) = k0 (sp_fold (sp_hk1 s t N) n k a).1 (sp_fold (sp_hk1 s t N) n k a).2.1 (sp_fold (sp_hk1 s t N) n k a).2.2 (px_set g m (px_S M s)) := by
  have h6 := ok.2.1.2
  have g8 := ok.2.2.1.2
  intro n
  induction n with
  | zero =>
    intro f k a hk hf
    obtain ⟨f, rfl⟩ : ∃ g, f = g + 1 := ⟨f - 1, by omega⟩
    rw [fn_X5_hooks_128]
    simp (disch := first | assumption | omega) only [qln, qsn, ql_0, ql_1, ql_2, ql_3, ql_4, ql_5, ql_6, ql_7, ql_62, qs_62, ql_63, qs_63, ql_64, qs_64, ql_117, qs_117, ql_118, qs_118, pl_h_0, ps_h_0, pl_h_1, ps_h_1, pl_h_2, ps_h_2, ps_h_4, ps_h_5, ps_h_6, pl_h_7, ps_h_7, ps_reserved_0, ps_reserved_1, ps_reserved_2, ps_reserved_3, ps_reserved_4, ps_reserved_5, ps_reserved_6, ps_reserved_7, ps_reserved_8, ps_reserved_9, ps_reserved_10, ps_reserved_11, ps_reserved_12, ps_reserved_13, ps_reserved_14, ps_reserved_15, ps_reserved_16, ps_reserved_17, ps_reserved_18, ps_reserved_19, ps_reserved_20, ps_reserved_21, ps_reserved_22, ps_reserved_23, pl_toldAt_0, ps_toldAt_0, pl_toldAt_1, ps_toldAt_1, ps_toldAt_2, ps_toldAt_3, pl_truths_0, px_c8, px_c10, px_c16, px_c20, px_c22, px_c30, px_c36, px_c38, px_c46, px_c54, px_c62, px_c65, px_c73, px_c81, px_c89, px_c97, px_c103, px_c109, px_c119, pr_tape, pln_tape, psn_tape, pr_s, pr_h, pln_h, psn_h, pr_read, pln_read, psn_read, pr_names, pln_names, psn_names, pr_reserved, pln_reserved, psn_reserved, pr_undone, pln_undone, psn_undone, pr_before, pln_before, psn_before, pr_sat, pln_sat, psn_sat, pr_toldAt, pln_toldAt, psn_toldAt, pr_stack, pln_stack, psn_stack, pr_truths, pln_truths, psn_truths, pr_kept, pln_kept, psn_kept, pr_namesKept, pln_namesKept, psn_namesKept, pr_areKept, pln_areKept, psn_areKept, px_c1r, px_rc, px_cI, px_cR, px_cV, px_ckz, px_ckz0, px_ckz1, px_getJ, px_putJ, cz_leti, cz_jn, pg_thrown, pp_thrown, pg_length, pp_length, pg_size, pp_size, pg_p, pp_p, pg_limit, pp_limit, pg_token, pp_token, pg_at, pp_at, pg_span, pp_span, pg_number, pp_number, pg_fault, pp_fault, pg_faultAt, pp_faultAt, pg_got, pp_got, pg_lines, pp_lines, pg_onces, pp_onces, pg_undoMany, pp_undoMany, pg_laidSet, pp_laidSet, pg_hasLaid, pp_hasLaid, pg_turnSet, pp_turnSet, pg_hasTurns, pp_hasTurns, pg_frostDay, pp_frostDay, pg_surelySet, pp_surelySet, pg_neverSet, pp_neverSet, pg_hasHooks, pp_hasHooks, pg_priceNow, pp_priceNow, pg_hasPrice, pp_hasPrice, pg_seed, pp_seed, pg_toldMany, pp_toldMany, pg_hasTold, pp_hasTold, pg_codes, pp_codes, pg_ones, pp_ones, pg_top, pp_top, pg_deep, pp_deep, pg_isWhole, pp_isWhole, px_SAne, px_SL, px_SI, px_SW, px_S1, px_S2, px_S4, px_S3]
    rw [ok.2.1.1, if_pos (by rw [px_le (by omega) (by omega)]; omega)]
    rfl
  | succ n ih =>
    intro f k a hk hf
    obtain ⟨f, rfl⟩ : ∃ g, f = g + 1 := ⟨f - 1, by omega⟩
    obtain ⟨v, hv, ev⟩ := sp_coatsOf_256 (s := s) (y := Int32.ofNat k) g8
    have hL := sp_cnt_le (t := t) (y := Int32.ofNat k) N 0 0
    rw [fn_X5_hooks_128, pr_s, ql_1, ok.2.1.1, if_neg (by rw [px_le (by omega) (by omega)]; omega)]
    refine (pm_hooks_145 ok (sp_n s 2) 1000 0 0 (Nat.zero_add _) (by omega)).trans ?_
    have ec : sp_fold (fun c a => if s (22 + c) = Int32.ofNat k then a ||| ((1 : Int32) <<< (Int32.ofNat c &&& 31)) else a) (sp_n s 2) 0 0 = Int32.ofNat v := ev
    rw [ec]
    refine (pm_hooks_193 hv (show k < 6 by omega) (hz k (by omega)) (by omega) _ 1000 0 a.1 (Nat.zero_add _) (by omega)).trans ?_
    simp (disch := first | assumption | omega) only [qln, qsn, ql_0, ql_1, ql_2, ql_3, ql_4, ql_5, ql_6, ql_7, ql_62, qs_62, ql_63, qs_63, ql_64, qs_64, ql_117, qs_117, ql_118, qs_118, pl_h_0, ps_h_0, pl_h_1, ps_h_1, pl_h_2, ps_h_2, ps_h_4, ps_h_5, ps_h_6, pl_h_7, ps_h_7, ps_reserved_0, ps_reserved_1, ps_reserved_2, ps_reserved_3, ps_reserved_4, ps_reserved_5, ps_reserved_6, ps_reserved_7, ps_reserved_8, ps_reserved_9, ps_reserved_10, ps_reserved_11, ps_reserved_12, ps_reserved_13, ps_reserved_14, ps_reserved_15, ps_reserved_16, ps_reserved_17, ps_reserved_18, ps_reserved_19, ps_reserved_20, ps_reserved_21, ps_reserved_22, ps_reserved_23, pl_toldAt_0, ps_toldAt_0, pl_toldAt_1, ps_toldAt_1, ps_toldAt_2, ps_toldAt_3, pl_truths_0, px_c8, px_c10, px_c16, px_c20, px_c22, px_c30, px_c36, px_c38, px_c46, px_c54, px_c62, px_c65, px_c73, px_c81, px_c89, px_c97, px_c103, px_c109, px_c119, pr_tape, pln_tape, psn_tape, pr_s, pr_h, pln_h, psn_h, pr_read, pln_read, psn_read, pr_names, pln_names, psn_names, pr_reserved, pln_reserved, psn_reserved, pr_undone, pln_undone, psn_undone, pr_before, pln_before, psn_before, pr_sat, pln_sat, psn_sat, pr_toldAt, pln_toldAt, psn_toldAt, pr_stack, pln_stack, psn_stack, pr_truths, pln_truths, psn_truths, pr_kept, pln_kept, psn_kept, pr_namesKept, pln_namesKept, psn_namesKept, pr_areKept, pln_areKept, psn_areKept, px_c1r, px_rc, px_cI, px_cR, px_cV, px_ckz, px_ckz0, px_ckz1, px_getJ, px_putJ, cz_leti, cz_jn, pg_thrown, pp_thrown, pg_length, pp_length, pg_size, pp_size, pg_p, pp_p, pg_limit, pp_limit, pg_token, pp_token, pg_at, pp_at, pg_span, pp_span, pg_number, pp_number, pg_fault, pp_fault, pg_faultAt, pp_faultAt, pg_got, pp_got, pg_lines, pp_lines, pg_onces, pp_onces, pg_undoMany, pp_undoMany, pg_laidSet, pp_laidSet, pg_hasLaid, pp_hasLaid, pg_turnSet, pp_turnSet, pg_hasTurns, pp_hasTurns, pg_frostDay, pp_frostDay, pg_surelySet, pp_surelySet, pg_neverSet, pp_neverSet, pg_hasHooks, pp_hasHooks, pg_priceNow, pp_priceNow, pg_hasPrice, pp_hasPrice, pg_seed, pp_seed, pg_toldMany, pp_toldMany, pg_hasTold, pp_hasTold, pg_codes, pp_codes, pg_ones, pp_ones, pg_top, pp_top, pg_deep, pp_deep, pg_isWhole, pp_isWhole, px_SAne, px_SL, px_SI, px_SW, px_S1, px_S2, px_S4, px_S3, pm_bits hv, Int32.or_zero]
    rw [hz k (by omega), sp_fold]
    have un : sp_hk1 s t N k a = (sp_ways (sp_pop v) (sp_cnt t (Int32.ofNat k) N 0 0) 0 a.1, if sp_cnt t (Int32.ofNat k) N 0 0 = sp_pop v then a.2.1 ||| Int32.ofNat v else a.2.1, if sp_cnt t (Int32.ofNat k) N 0 0 = 0 then a.2.2 ||| Int32.ofNat v else a.2.2) := by
      unfold sp_hk1
      rw [ev, Int32.toNatClampNeg_ofNat_of_lt (show v < 2 ^ 31 by omega)]
    rw [un]
    have pl := sp_pop_le v
    have e0 : (Int32.ofNat (sp_cnt t (Int32.ofNat k) N 0 0) = 0) = (sp_cnt t (Int32.ofNat k) N 0 0 = 0) := by rw [show (0 : Int32) = Int32.ofNat 0 from rfl, px_inj (by omega) (by omega)]
    have e1 : (Int32.ofNat (sp_cnt t (Int32.ofNat k) N 0 0) = Int32.ofNat (sp_pop v)) = (sp_cnt t (Int32.ofNat k) N 0 0 = sp_pop v) := px_inj (by omega) (by omega)
    by_cases q1 : sp_cnt t (Int32.ofNat k) N 0 0 = sp_pop v <;> by_cases q0 : sp_cnt t (Int32.ofNat k) N 0 0 = 0
    · rw [if_pos (by rw [e1]; exact q1), if_pos (by rw [e0]; exact q0), if_pos q1, if_pos q0]
      exact ih f (k + 1) (sp_ways (sp_pop v) (sp_cnt t (Int32.ofNat k) N 0 0) 0 a.1, a.2.1 ||| Int32.ofNat v, a.2.2 ||| Int32.ofNat v) (by omega) (by omega)
    · rw [if_pos (by rw [e1]; exact q1), if_neg (by rw [e0]; exact q0), if_pos q1, if_neg q0]
      exact ih f (k + 1) (sp_ways (sp_pop v) (sp_cnt t (Int32.ofNat k) N 0 0) 0 a.1, a.2.1 ||| Int32.ofNat v, a.2.2) (by omega) (by omega)
    · rw [if_neg (by rw [e1]; exact q1), if_pos (by rw [e0]; exact q0), if_neg q1, if_pos q0]
      exact ih f (k + 1) (sp_ways (sp_pop v) (sp_cnt t (Int32.ofNat k) N 0 0) 0 a.1, a.2.1, a.2.2 ||| Int32.ofNat v) (by omega) (by omega)
    · rw [if_neg (by rw [e1]; exact q1), if_neg (by rw [e0]; exact q0), if_neg q1, if_neg q0]
      exact ih f (k + 1) (sp_ways (sp_pop v) (sp_cnt t (Int32.ofNat k) N 0 0) 0 a.1, a.2.1, a.2.2) (by omega) (by omega)
theorem cm_hooks_66 {N : Nat} {k0 : Int32 → Int32 → Int32 → cz_H → cz_Z} (hc : X.2.1 0 = some c) (H : cx_st h x X 0 c s nm) (h8 : N ≤ 8) : ∀ (n f k : Nat) (a : Int32 × Int32 × Int32), k + n = sp_n s 1 → n < f → fn_X1_hooks_66 (some x) (Int32.ofNat N) k0 f a.1 a.2.1 a.2.2 (Int32.ofNat k) (cx_set h x X) = k0 (sp_fold (sp_hk1 s (X.2.2.1 0) N) n k a).1 (sp_fold (sp_hk1 s (X.2.2.1 0) N) n k a).2.1 (sp_fold (sp_hk1 s (X.2.2.1 0) N) n k a).2.2 (cx_set h x X) := by
  have ok := H.1.1.1.1
  have h6 := ok.2.1.2
  have g8 := ok.2.2.1.2
  intro n
  induction n with
  | zero =>
    intro f k a hk hf
    obtain ⟨f, rfl⟩ : ∃ g, f = g + 1 := ⟨f - 1, by omega⟩
    rw [fn_X1_hooks_66, cx_rc, cm_men hc H, px_cI, if_pos (by rw [px_le (by omega) (by omega)]; omega)]
    rfl
  | succ n ih =>
    intro f k a hk hf
    obtain ⟨f, rfl⟩ : ∃ g, f = g + 1 := ⟨f - 1, by omega⟩
    obtain ⟨v, hv, ev⟩ := sp_coatsOf_256 (s := s) (y := Int32.ofNat k) g8
    have hL := sp_cnt_le (t := X.2.2.1 0) (y := Int32.ofNat k) N 0 0
    rw [fn_X1_hooks_66, cx_rc, cm_men hc H, px_cI, if_neg (by rw [px_le (by omega) (by omega)]; omega)]
    refine (cm_hooks_81 h8 N 1000 0 0 (Nat.zero_add _) (by omega)).trans ?_
    rw [cg_capital, hc, pc_crc H.cap, pc_coatsOf ok H.cap, px_cI, ev, pc_bitCount hv, px_cI]
    refine (cm_hooks_128 (show sp_cnt (X.2.2.1 0) (Int32.ofNat k) N 0 0 ≤ 8 by omega) _ 1000 0 a.1 (Nat.zero_add _) (by omega)).trans ?_
    simp only [cz_jn, cz_leti, px_c1r]
    rw [sp_fold]
    have un : sp_hk1 s (X.2.2.1 0) N k a = (sp_ways (sp_pop v) (sp_cnt (X.2.2.1 0) (Int32.ofNat k) N 0 0) 0 a.1, if sp_cnt (X.2.2.1 0) (Int32.ofNat k) N 0 0 = sp_pop v then a.2.1 ||| Int32.ofNat v else a.2.1, if sp_cnt (X.2.2.1 0) (Int32.ofNat k) N 0 0 = 0 then a.2.2 ||| Int32.ofNat v else a.2.2) := by
      unfold sp_hk1
      rw [ev, Int32.toNatClampNeg_ofNat_of_lt (show v < 2 ^ 31 by omega)]
    rw [un]
    have pl := sp_pop_le v
    have e0 : (Int32.ofNat (sp_cnt (X.2.2.1 0) (Int32.ofNat k) N 0 0) = 0) = (sp_cnt (X.2.2.1 0) (Int32.ofNat k) N 0 0 = 0) := by rw [show (0 : Int32) = Int32.ofNat 0 from rfl, px_inj (by omega) (by omega)]
    have e1 : (Int32.ofNat (sp_cnt (X.2.2.1 0) (Int32.ofNat k) N 0 0) = Int32.ofNat (sp_pop v)) = (sp_cnt (X.2.2.1 0) (Int32.ofNat k) N 0 0 = sp_pop v) := px_inj (by omega) (by omega)
    by_cases q1 : sp_cnt (X.2.2.1 0) (Int32.ofNat k) N 0 0 = sp_pop v <;> by_cases q0 : sp_cnt (X.2.2.1 0) (Int32.ofNat k) N 0 0 = 0
    · rw [if_pos (by rw [e1]; exact q1), if_pos (by rw [e0]; exact q0), if_pos q1, if_pos q0]
      exact ih f (k + 1) (sp_ways (sp_pop v) (sp_cnt (X.2.2.1 0) (Int32.ofNat k) N 0 0) 0 a.1, a.2.1 ||| Int32.ofNat v, a.2.2 ||| Int32.ofNat v) (by omega) (by omega)
    · rw [if_pos (by rw [e1]; exact q1), if_neg (by rw [e0]; exact q0), if_pos q1, if_neg q0]
      exact ih f (k + 1) (sp_ways (sp_pop v) (sp_cnt (X.2.2.1 0) (Int32.ofNat k) N 0 0) 0 a.1, a.2.1 ||| Int32.ofNat v, a.2.2) (by omega) (by omega)
    · rw [if_neg (by rw [e1]; exact q1), if_pos (by rw [e0]; exact q0), if_neg q1, if_pos q0]
      exact ih f (k + 1) (sp_ways (sp_pop v) (sp_cnt (X.2.2.1 0) (Int32.ofNat k) N 0 0) 0 a.1, a.2.1, a.2.2 ||| Int32.ofNat v) (by omega) (by omega)
    · rw [if_neg (by rw [e1]; exact q1), if_neg (by rw [e0]; exact q0), if_neg q1, if_neg q0]
      exact ih f (k + 1) (sp_ways (sp_pop v) (sp_cnt (X.2.2.1 0) (Int32.ofNat k) N 0 0) 0 a.1, a.2.1, a.2.2) (by omega) (by omega)
end HKA
