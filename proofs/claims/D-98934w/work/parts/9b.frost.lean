/-! THE PLAIN LAW, 41: what a question may leave behind; frost; what a coat costs -/
set_option maxRecDepth 100000
/-- the face but for what is of no account: wins, gives, the trial -/
def cx_eq (X Y : cx_X) : Prop := (∀ j, j ≠ 11 → j ≠ 12 → Y.1 j = X.1 j) ∧ Y.2.1 = X.2.1 ∧ Y.2.2.1 = X.2.2.1 ∧ Y.2.2.2.1 = X.2.2.2.1 ∧ ∀ i, i ≠ 1 → Y.2.2.2.2 i = X.2.2.2.2 i
def px_eq (M N : px_M) : Prop := (∀ j, j ∈ [2, 15, 23, 24, 25, 26, 27, 29, 30, 31, 33, 34, 38] → N.1 j = M.1 j) ∧ (∀ j, j ∈ [1, 21, 37, 46, 48] → N.2.2.1 j = M.2.2.1 j) ∧ (∀ i, i < 22 → N.2.2.2 9 i = M.2.2.2 9 i) ∧ N.2.2.2 10 = M.2.2.2 10 ∧ N.2.2.2 47 = M.2.2.2 47
theorem cx_eq.rf {X : cx_X} : cx_eq X X := ⟨fun _ _ _ => rfl, rfl, rfl, rfl, fun _ _ => rfl⟩
theorem cx_eq.tr {X Y Z : cx_X} (a : cx_eq X Y) (b : cx_eq Y Z) : cx_eq X Z := ⟨fun j h1 h2 => (b.1 j h1 h2).trans (a.1 j h1 h2), b.2.1.trans a.2.1, b.2.2.1.trans a.2.2.1, b.2.2.2.1.trans a.2.2.2.1, fun i hi => (b.2.2.2.2 i hi).trans (a.2.2.2.2 i hi)⟩
theorem cx_eq.G {X : cx_X} {R : rx_R} : cx_eq X (cx_G X 1 R) := ⟨fun _ _ _ => rfl, rfl, rfl, rfl, fun i hi => cx_Gn hi⟩
theorem cx_eq.I {X : cx_X} {j : Nat} {v : Int32} (hj : j = 11 ∨ j = 12) : cx_eq X (cx_I X j v) := ⟨fun i h1 h2 => cx_In (by omega), rfl, rfl, rfl, fun _ _ => rfl⟩
theorem px_eq.rf {M : px_M} : px_eq M M := ⟨fun _ _ => rfl, fun _ _ => rfl, fun _ _ => rfl, rfl, rfl⟩
theorem px_eq.tr {M N P : px_M} (a : px_eq M N) (b : px_eq N P) : px_eq M P := ⟨fun j h => (b.1 j h).trans (a.1 j h), fun j h => (b.2.1 j h).trans (a.2.1 j h), fun i h => (b.2.2.1 i h).trans (a.2.2.1 i h), b.2.2.2.1.trans a.2.2.2.1, b.2.2.2.2.trans a.2.2.2.2⟩
theorem px_eq.I {M : px_M} {j : Nat} {v : Int32} (hj : j ∉ [2, 15, 23, 24, 25, 26, 27, 29, 30, 31, 33, 34, 38]) : px_eq M (px_I M j v) := ⟨fun i hi => px_I1n (fun e => hj (by rw [← e]; exact hi)), fun _ _ => rfl, fun _ _ => rfl, rfl, rfl⟩
theorem px_eq.B {M : px_M} {j : Nat} {g : Nat → Int32} (hj : j ∉ [1, 21, 37, 46, 48]) : px_eq M (px_B M j g) := ⟨fun _ _ => rfl, fun i hi => if_neg (fun e => hj (by rw [← e]; exact hi)), fun _ _ => rfl, rfl, rfl⟩
theorem px_eq.A {M : px_M} {j i : Nat} {v : Int32} (hj : j ∉ [1, 21, 37, 46, 48]) : px_eq M (px_A M j i v) := px_eq.B hj
theorem px_eq.W {M : px_M} {v : Int64} : px_eq M (px_W M v) := ⟨fun _ _ => rfl, fun _ _ => rfl, fun _ _ => rfl, rfl, rfl⟩
/-- a question: both answer a; what changes is of no account -/
def qb (h : cz_H) (x : Nat) (X : cx_X) (s : Nat → Int32) (M : px_M) (fc fr : Option Nat → cz_H → cz_Z) : Prop := ∃ (a : Int32) (Y : cx_X) (N : px_M), fc (some x) (cx_set h x X) = some (.inl (some (cz_i a)), cx_set h x Y) ∧ cx_eq X Y ∧ px_eq M N ∧ ∀ (g : cz_H) (m : Nat), g.1.1 ≤ m → fr (some m) (px_set g m (px_S M s)) = some (.inl (some (cz_i a)), px_set g m (px_S N s))
theorem qa.b {h : cz_H} {x : Nat} {X : cx_X} {s : Nat → Int32} {M : px_M} {fc fr : Option Nat → cz_H → cz_Z} (q : qa h x X s M fc fr) : qb h x X s M fc fr := by
  obtain ⟨a, h1, h2⟩ := q
  exact ⟨a, X, px_I M 0 0, h1, cx_eq.rf, px_eq.I (by decide), h2⟩
def sp_sq (a : Int32) : Int32 := a * a
/-- one and the other freeze, day by day -/
def sp_fr (s : Nat → Int32) (y o : Nat) : Nat → Nat → Int32 → Int32 → Option (Int32 × Int32 × Int32)
  | 0, _, _, _ => none
  | n + 1, k, a, b => if s 6 < a + sp_chillIn s y (Int32.ofNat k) 0 * sp_chillIn s y (Int32.ofNat k) 0 then some (a + sp_chillIn s y (Int32.ofNat k) 0 * sp_chillIn s y (Int32.ofNat k) 0, b + sp_chillIn s o (Int32.ofNat k) 0 * sp_chillIn s o (Int32.ofNat k) 0, Int32.ofNat k) else if s 6 < b + sp_chillIn s o (Int32.ofNat k) 0 * sp_chillIn s o (Int32.ofNat k) 0 then some (a + sp_chillIn s y (Int32.ofNat k) 0 * sp_chillIn s y (Int32.ofNat k) 0, b + sp_chillIn s o (Int32.ofNat k) 0 * sp_chillIn s o (Int32.ofNat k) 0, Int32.ofNat k) else sp_fr s y o n (k + 1) (a + sp_chillIn s y (Int32.ofNat k) 0 * sp_chillIn s y (Int32.ofNat k) 0) (b + sp_chillIn s o (Int32.ofNat k) 0 * sp_chillIn s o (Int32.ofNat k) 0)
def sp_frk {α : Type} (r : Option (Int32 × Int32 × Int32)) (k0 : Int32 → Int32 → Int32 → α) (k1 : α) : α := match r with
  | none => k1
  | some q => k0 q.1 q.2.1 q.2.2
section FRA
variable {h g : cz_H} {x c m : Nat} {X : cx_X} {s : Nat → Int32} {nm : Nat → Int64} {M : px_M}
theorem pm_harmIn {k : Nat} {d a : Int32} (ok : sp_ok s) (hk : k < 6) : fn_X5_harmIn (some m) (Int32.ofNat k) d a (px_set g m (px_S M s)) = some (.inl (some (cz_i (sp_chillIn s k d a * sp_chillIn s k d a))), px_set g m (px_S M s)) := by
  rw [fn_X5_harmIn, px_rc, pm_chillIn ok hk, px_cI]
theorem pm_frostOf_14 {y o : Nat} {k0 : Int32 → Int32 → Int32 → cz_H → cz_Z} {k1 : cz_H → cz_Z} (ok : sp_ok s) (hy : y < 6) (ho : o < 6) : ∀ (n f k : Nat) (a : Int32) (b : Int32), k + n = 400 → n < f → fn_X5_frostOf_14 (some m) (Int32.ofNat y) (Int32.ofNat o) k0 k1 f a b (Int32.ofNat k) (px_set g m (px_S M s)) = sp_frk (sp_fr s y o n k a b) (fun a b d => k0 a b d (px_set g m (px_S M s))) (k1 (px_set g m (px_S M s))) := by
  intro n
  induction n with
  | zero =>
    intro f k a b hk hf
    obtain ⟨f, rfl⟩ : ∃ g, f = g + 1 := ⟨f - 1, by omega⟩
    rw [fn_X5_frostOf_14, show (400 : Int32) = Int32.ofNat 400 from rfl, if_pos (by rw [px_le (by omega) (by omega)]; omega)]
    rfl
  | succ n ih =>
    intro f k a b hk hf
    obtain ⟨f, rfl⟩ : ∃ g, f = g + 1 := ⟨f - 1, by omega⟩
    rw [fn_X5_frostOf_14, show (400 : Int32) = Int32.ofNat 400 from rfl, if_neg (by rw [px_le (by omega) (by omega)]; omega), px_rc, pm_harmIn ok hy, px_cI]
    simp (disch := first | assumption | omega) only [qln, qsn, ql_0, ql_1, ql_2, ql_3, ql_4, ql_5, ql_6, ql_7, ql_62, qs_62, ql_63, qs_63, ql_64, qs_64, ql_117, qs_117, ql_118, qs_118, pl_h_0, ps_h_0, pl_h_1, ps_h_1, pl_h_2, ps_h_2, ps_h_4, ps_h_5, ps_h_6, pl_h_7, ps_h_7, ps_reserved_0, ps_reserved_1, ps_reserved_2, ps_reserved_3, ps_reserved_4, ps_reserved_5, ps_reserved_6, ps_reserved_7, ps_reserved_8, ps_reserved_9, ps_reserved_10, ps_reserved_11, ps_reserved_12, ps_reserved_13, ps_reserved_14, ps_reserved_15, ps_reserved_16, ps_reserved_17, ps_reserved_18, ps_reserved_19, ps_reserved_20, ps_reserved_21, ps_reserved_22, ps_reserved_23, pl_toldAt_0, ps_toldAt_0, pl_toldAt_1, ps_toldAt_1, ps_toldAt_2, ps_toldAt_3, pl_truths_0, px_c8, px_c10, px_c16, px_c20, px_c22, px_c30, px_c36, px_c38, px_c46, px_c54, px_c62, px_c65, px_c73, px_c81, px_c89, px_c97, px_c103, px_c109, px_c119, pr_tape, pln_tape, psn_tape, pr_s, pr_h, pln_h, psn_h, pr_read, pln_read, psn_read, pr_names, pln_names, psn_names, pr_reserved, pln_reserved, psn_reserved, pr_undone, pln_undone, psn_undone, pr_before, pln_before, psn_before, pr_sat, pln_sat, psn_sat, pr_toldAt, pln_toldAt, psn_toldAt, pr_stack, pln_stack, psn_stack, pr_truths, pln_truths, psn_truths, pr_kept, pln_kept, psn_kept, pr_namesKept, pln_namesKept, psn_namesKept, pr_areKept, pln_areKept, psn_areKept, px_c1r, px_rc, px_cI, px_cR, px_cV, px_ckz, px_ckz0, px_ckz1, px_getJ, px_putJ, cz_leti, cz_jn, pg_thrown, pp_thrown, pg_length, pp_length, pg_size, pp_size, pg_p, pp_p, pg_limit, pp_limit, pg_token, pp_token, pg_at, pp_at, pg_span, pp_span, pg_number, pp_number, pg_fault, pp_fault, pg_faultAt, pp_faultAt, pg_got, pp_got, pg_lines, pp_lines, pg_onces, pp_onces, pg_undoMany, pp_undoMany, pg_laidSet, pp_laidSet, pg_hasLaid, pp_hasLaid, pg_turnSet, pp_turnSet, pg_hasTurns, pp_hasTurns, pg_frostDay, pp_frostDay, pg_surelySet, pp_surelySet, pg_neverSet, pp_neverSet, pg_hasHooks, pp_hasHooks, pg_priceNow, pp_priceNow, pg_hasPrice, pp_hasPrice, pg_seed, pp_seed, pg_toldMany, pp_toldMany, pg_hasTold, pp_hasTold, pg_codes, pp_codes, pg_ones, pp_ones, pg_top, pp_top, pg_deep, pp_deep, pg_isWhole, pp_isWhole, px_SAne, px_SL, px_SI, px_SW, px_S1, px_S2, px_S4, px_S3, pm_harmIn ok ho, ih, sp_fr]
    split
    · rfl
    · split <;> rfl
theorem cm_layFrost_25 {y o : Nat} {k0 : Int32 → Int32 → Int32 → cz_H → cz_Z} {k1 : cz_H → cz_Z} (hc : X.2.1 0 = some c) (H : cx_st h x X 0 c s nm) (hy : y < sp_n s 1) (ho : o < sp_n s 1) : ∀ (n f k : Nat) (a : Int32) (b : Int32), k + n = 400 → n < f → fn_X1_layFrost_25 (some x) (Int32.ofNat y) (Int32.ofNat o) k0 k1 f a b (Int32.ofNat k) (cx_set h x X) = sp_frk (sp_fr s y o n k a b) (fun a b d => k0 a b d (cx_set h x X)) (k1 (cx_set h x X)) := by
  obtain ⟨V, ls, lm, lc, f0, f1, g0, g1, v1, v2, v3, v4, v5, v6, v7, v8, v9, v10, v11, v12, v13, v14, l1, l2, l3⟩ := H.cap
  intro n
  induction n with
  | zero =>
    intro f k a b hk hf
    obtain ⟨f, rfl⟩ : ∃ g, f = g + 1 := ⟨f - 1, by omega⟩
    rw [fn_X1_layFrost_25, show (400 : Int32) = Int32.ofNat 400 from rfl, if_pos (by rw [px_le (by omega) (by omega)]; omega)]
    rfl
  | succ n ih =>
    intro f k a b hk hf
    obtain ⟨f, rfl⟩ : ∃ g, f = g + 1 := ⟨f - 1, by omega⟩
    rw [fn_X1_layFrost_25, show (400 : Int32) = Int32.ofNat 400 from rfl, if_neg (by rw [px_le (by omega) (by omega)]; omega), cg_now, n0_rc, n0_chill H hy, px_cI, pc_square, px_cI]
    simp only [cz_leti, cg_now, n0_rc, n0_chill H ho, px_cI, pc_square, cg_capital, hc, px_c1r, ih f (k + 1) _ _ (show k + 1 + n = 400 by omega) (show n < f by omega), sp_fr]
    rw [pc_getI v1 v6 rfl]
    split
    · rfl
    · (rw [pc_getI v1 v6 rfl]; split <;> rfl)
theorem pm_areTwo {y o : Int32} (ok : sp_ok s) : fn_X5_areTwo (some m) y o (px_set g m (px_S M s)) = some (.inl (some (cz_i (if (0 ≤ y ∧ y ≤ Int32.ofNat (sp_n s 1) - 1) ∧ (0 ≤ o ∧ o ≤ Int32.ofNat (sp_n s 1) - 1) ∧ ¬ y = o then 1 else 0))), px_set g m (px_S M s)) := by
  rw [fn_X5_areTwo]
  simp (disch := first | assumption | omega) only [qln, qsn, ql_0, ql_1, ql_2, ql_3, ql_4, ql_5, ql_6, ql_7, ql_62, qs_62, ql_63, qs_63, ql_64, qs_64, ql_117, qs_117, ql_118, qs_118, pl_h_0, ps_h_0, pl_h_1, ps_h_1, pl_h_2, ps_h_2, ps_h_4, ps_h_5, ps_h_6, pl_h_7, ps_h_7, ps_reserved_0, ps_reserved_1, ps_reserved_2, ps_reserved_3, ps_reserved_4, ps_reserved_5, ps_reserved_6, ps_reserved_7, ps_reserved_8, ps_reserved_9, ps_reserved_10, ps_reserved_11, ps_reserved_12, ps_reserved_13, ps_reserved_14, ps_reserved_15, ps_reserved_16, ps_reserved_17, ps_reserved_18, ps_reserved_19, ps_reserved_20, ps_reserved_21, ps_reserved_22, ps_reserved_23, pl_toldAt_0, ps_toldAt_0, pl_toldAt_1, ps_toldAt_1, ps_toldAt_2, ps_toldAt_3, pl_truths_0, px_c8, px_c10, px_c16, px_c20, px_c22, px_c30, px_c36, px_c38, px_c46, px_c54, px_c62, px_c65, px_c73, px_c81, px_c89, px_c97, px_c103, px_c109, px_c119, pr_tape, pln_tape, psn_tape, pr_s, pr_h, pln_h, psn_h, pr_read, pln_read, psn_read, pr_names, pln_names, psn_names, pr_reserved, pln_reserved, psn_reserved, pr_undone, pln_undone, psn_undone, pr_before, pln_before, psn_before, pr_sat, pln_sat, psn_sat, pr_toldAt, pln_toldAt, psn_toldAt, pr_stack, pln_stack, psn_stack, pr_truths, pln_truths, psn_truths, pr_kept, pln_kept, psn_kept, pr_namesKept, pln_namesKept, psn_namesKept, pr_areKept, pln_areKept, psn_areKept, px_c1r, px_rc, px_cI, px_cR, px_cV, px_ckz, px_ckz0, px_ckz1, px_getJ, px_putJ, cz_leti, cz_jn, pg_thrown, pp_thrown, pg_length, pp_length, pg_size, pp_size, pg_p, pp_p, pg_limit, pp_limit, pg_token, pp_token, pg_at, pp_at, pg_span, pp_span, pg_number, pp_number, pg_fault, pp_fault, pg_faultAt, pp_faultAt, pg_got, pp_got, pg_lines, pp_lines, pg_onces, pp_onces, pg_undoMany, pp_undoMany, pg_laidSet, pp_laidSet, pg_hasLaid, pp_hasLaid, pg_turnSet, pp_turnSet, pg_hasTurns, pp_hasTurns, pg_frostDay, pp_frostDay, pg_surelySet, pp_surelySet, pg_neverSet, pp_neverSet, pg_hasHooks, pp_hasHooks, pg_priceNow, pp_priceNow, pg_hasPrice, pp_hasPrice, pg_seed, pp_seed, pg_toldMany, pp_toldMany, pg_hasTold, pp_hasTold, pg_codes, pp_codes, pg_ones, pp_ones, pg_top, pp_top, pg_deep, pp_deep, pg_isWhole, pp_isWhole, px_SAne, px_SL, px_SI, px_SW, px_S1, px_S2, px_S4, px_S3, pm_isMan ok]
  by_cases a : 0 ≤ y ∧ y ≤ Int32.ofNat (sp_n s 1) - 1
  · by_cases b : 0 ≤ o ∧ o ≤ Int32.ofNat (sp_n s 1) - 1
    · by_cases e : y = o
      · rw [if_pos a, if_neg (by decide), if_pos b, if_neg (by decide), if_pos e, if_neg (fun q => q.2.2 e)]
      · rw [if_pos a, if_neg (by decide), if_pos b, if_neg (by decide), if_neg e, if_pos ⟨a, b, e⟩]
    · rw [if_pos a, if_neg (by decide), if_neg b, if_pos rfl, if_neg (fun q => b q.2.1)]
  · rw [if_neg a, if_pos rfl, if_neg (fun q => a q.1)]
theorem cm_areTwo {y o : Int32} (hc : X.2.1 0 = some c) (H : cx_st h x X 0 c s nm) : fn_X1_areTwo (some x) y o (cx_set h x X) = some (.inl (some (cz_i (if (0 ≤ y ∧ y ≤ Int32.ofNat (sp_n s 1) - 1) ∧ (0 ≤ o ∧ o ≤ Int32.ofNat (sp_n s 1) - 1) ∧ ¬ y = o then 1 else 0))), cx_set h x X) := by
  rw [fn_X1_areTwo, cx_rc, cm_isMan hc H, px_cI, cx_rc, cm_isMan hc H, px_cI]
  by_cases a : 0 ≤ y ∧ y ≤ Int32.ofNat (sp_n s 1) - 1
  · by_cases b : 0 ≤ o ∧ o ≤ Int32.ofNat (sp_n s 1) - 1
    · by_cases e : y = o
      · rw [if_pos a, if_neg (by decide), if_pos b, if_neg (by decide), if_pos e, if_neg (fun q => q.2.2 e)]
      · rw [if_pos a, if_neg (by decide), if_pos b, if_neg (by decide), if_neg e, if_pos ⟨a, b, e⟩]
    · rw [if_pos a, if_neg (by decide), if_neg b, if_pos rfl, if_neg (fun q => b q.2.1)]
  · rw [if_neg a, if_pos rfl, if_neg (fun q => a q.1)]
theorem qb_frost2 {y o : Int32} (hb : h.1.1 ≤ x) (hc : X.2.1 0 = some c) (H : cx_st h x X 0 c s nm) : qb h x X s M (fun r g => fn_X1_frost r y o g) (fun r g => fn_X5_frost r y o g) ∧ qb h x X s M (fun r g => fn_X1_frostAt r y o g) (fun r g => fn_X5_frostAt r y o g) := by
  have ok := H.1.1.1.1
  have h6 := ok.2.1.2
  by_cases t : (0 ≤ y ∧ y ≤ Int32.ofNat (sp_n s 1) - 1) ∧ (0 ≤ o ∧ o ≤ Int32.ofNat (sp_n s 1) - 1) ∧ ¬ y = o
  · have t2 := t
    obtain ⟨a, b, -⟩ := t2
    rw [px_range (by omega)] at a b
    obtain ⟨ky, hy, rfl⟩ := a
    obtain ⟨ko, ho, rfl⟩ := b
    obtain ⟨d, ed, hd⟩ := H.1.2.1
    have ep : ∀ {k : Nat}, k < sp_n s 1 → ¬ Int32.ofNat k < 0 := fun hk => px_neg (by omega)
    have refOf : ∀ (g : cz_H) (m : Nat) (M : px_M), fn_X5_frostOf (some m) (Int32.ofNat ky) (Int32.ofNat ko) (px_set g m (px_S M s)) = sp_frk (sp_fr s ky ko (400 - d) d 0 0) (fun a b e => cz_put (px_set g m (px_S M s)) (some m) [(5, 28)] (cz_i e) (fun h30 => (if a = b then some (.inl (some (cz_i (-1))), h30) else (if a ≤ b then some (.inl (some (cz_i (Int32.ofNat ky))), h30) else some (.inl (some (cz_i (Int32.ofNat ko))), h30))))) (some (.inl (some (cz_i (-1))), px_set g m (px_S M s))) := by
      intro g m M
      rw [fn_X5_frostOf]
      simp (disch := first | assumption | omega) only [qln, qsn, ql_0, ql_1, ql_2, ql_3, ql_4, ql_5, ql_6, ql_7, ql_62, qs_62, ql_63, qs_63, ql_64, qs_64, ql_117, qs_117, ql_118, qs_118, pl_h_0, ps_h_0, pl_h_1, ps_h_1, pl_h_2, ps_h_2, ps_h_4, ps_h_5, ps_h_6, pl_h_7, ps_h_7, ps_reserved_0, ps_reserved_1, ps_reserved_2, ps_reserved_3, ps_reserved_4, ps_reserved_5, ps_reserved_6, ps_reserved_7, ps_reserved_8, ps_reserved_9, ps_reserved_10, ps_reserved_11, ps_reserved_12, ps_reserved_13, ps_reserved_14, ps_reserved_15, ps_reserved_16, ps_reserved_17, ps_reserved_18, ps_reserved_19, ps_reserved_20, ps_reserved_21, ps_reserved_22, ps_reserved_23, pl_toldAt_0, ps_toldAt_0, pl_toldAt_1, ps_toldAt_1, ps_toldAt_2, ps_toldAt_3, pl_truths_0, px_c8, px_c10, px_c16, px_c20, px_c22, px_c30, px_c36, px_c38, px_c46, px_c54, px_c62, px_c65, px_c73, px_c81, px_c89, px_c97, px_c103, px_c109, px_c119, pr_tape, pln_tape, psn_tape, pr_s, pr_h, pln_h, psn_h, pr_read, pln_read, psn_read, pr_names, pln_names, psn_names, pr_reserved, pln_reserved, psn_reserved, pr_undone, pln_undone, psn_undone, pr_before, pln_before, psn_before, pr_sat, pln_sat, psn_sat, pr_toldAt, pln_toldAt, psn_toldAt, pr_stack, pln_stack, psn_stack, pr_truths, pln_truths, psn_truths, pr_kept, pln_kept, psn_kept, pr_namesKept, pln_namesKept, psn_namesKept, pr_areKept, pln_areKept, psn_areKept, px_c1r, px_rc, px_cI, px_cR, px_cV, px_ckz, px_ckz0, px_ckz1, px_getJ, px_putJ, cz_leti, cz_jn, pg_thrown, pp_thrown, pg_length, pp_length, pg_size, pp_size, pg_p, pp_p, pg_limit, pp_limit, pg_token, pp_token, pg_at, pp_at, pg_span, pp_span, pg_number, pp_number, pg_fault, pp_fault, pg_faultAt, pp_faultAt, pg_got, pp_got, pg_lines, pp_lines, pg_onces, pp_onces, pg_undoMany, pp_undoMany, pg_laidSet, pp_laidSet, pg_hasLaid, pp_hasLaid, pg_turnSet, pp_turnSet, pg_hasTurns, pp_hasTurns, pg_frostDay, pp_frostDay, pg_surelySet, pp_surelySet, pg_neverSet, pp_neverSet, pg_hasHooks, pp_hasHooks, pg_priceNow, pp_priceNow, pg_hasPrice, pp_hasPrice, pg_seed, pp_seed, pg_toldMany, pp_toldMany, pg_hasTold, pp_hasTold, pg_codes, pp_codes, pg_ones, pp_ones, pg_top, pp_top, pg_deep, pp_deep, pg_isWhole, pp_isWhole, px_SAne, px_SL, px_SI, px_SW, px_S1, px_S2, px_S4, px_S3]
      rw [ed]
      exact pm_frostOf_14 ok (by omega) (by omega) (400 - d) 1000 d 0 0 (by omega) (by omega)
    have comOf : fn_X1_layFrost (some x) (Int32.ofNat ky) (Int32.ofNat ko) (cx_set h x X) = sp_frk (sp_fr s ky ko (400 - d) d 0 0) (fun a b e => (if a = b then some (.inl (some (cz_i 0)), cx_set h x (cx_I (cx_I X 11 (if a ≤ b then Int32.ofNat ky else Int32.ofNat ko)) 12 e)) else some (.inl (some (cz_i 1)), cx_set h x (cx_I (cx_I X 11 (if a ≤ b then Int32.ofNat ky else Int32.ofNat ko)) 12 e)))) (some (.inl (some (cz_i 0)), cx_set h x X)) := by
      rw [fn_X1_layFrost, cx_rc, cm_areTwo hc H, px_cI, if_pos t, if_neg (by decide), cg_now, n0_day, H.2.2.2.1, ed]
      refine (cm_layFrost_25 hc H hy ho (400 - d) 1000 d 0 0 (by omega) (by omega)).trans ?_
      cases sp_fr s ky ko (400 - d) d 0 0 with
      | none => rfl
      | some q =>
        show cz_jn _ _ = _
        simp only [cz_jn, cp_wins hb, cp_gives hb, sp_frk]
        by_cases e : q.1 ≤ q.2.1
        · rw [if_pos e, if_pos e]
        · rw [if_neg e, if_neg e]
    cases hf : sp_fr s ky ko (400 - d) d 0 0 with
    | none =>
      rw [hf] at comOf
      constructor
      · refine ⟨-1, X, px_I M 0 0, ?_, cx_eq.rf, px_eq.I (by decide), fun g m hb => ?_⟩
        · dsimp only
          rw [fn_X1_frost, cx_rc, comOf]
          rfl
        · dsimp only
          rw [fn_X5_frost]
          simp (disch := first | assumption | omega) only [pp_thrown, px_SI, px_rc, pm_areTwo ok, px_cI]
          rw [if_pos t, if_neg (by decide), refOf, hf]
          rfl
      · refine ⟨-1, X, px_I M 0 0, ?_, cx_eq.rf, px_eq.I (by decide), fun g m hb => ?_⟩
        · dsimp only
          rw [fn_X1_frostAt, cx_rc, comOf]
          rfl
        · dsimp only
          rw [fn_X5_frostAt]
          simp (disch := first | assumption | omega) only [pp_thrown, px_SI, px_rc, pm_areTwo ok, px_cI]
          rw [if_pos t, if_neg (by decide), refOf, hf]
          rfl
    | some q =>
      rw [hf] at comOf
      have comOf : fn_X1_layFrost (some x) (Int32.ofNat ky) (Int32.ofNat ko) (cx_set h x X) = (if q.1 = q.2.1 then some (.inl (some (cz_i 0)), cx_set h x (cx_I (cx_I X 11 (if q.1 ≤ q.2.1 then Int32.ofNat ky else Int32.ofNat ko)) 12 q.2.2)) else some (.inl (some (cz_i 1)), cx_set h x (cx_I (cx_I X 11 (if q.1 ≤ q.2.1 then Int32.ofNat ky else Int32.ofNat ko)) 12 q.2.2))) := comOf
      have ceq : cx_eq X (cx_I (cx_I X 11 (if q.1 ≤ q.2.1 then Int32.ofNat ky else Int32.ofNat ko)) 12 q.2.2) := (cx_eq.I (Or.inl rfl)).tr (cx_eq.I (Or.inr rfl))
      have peq : px_eq M (px_I (px_I M 0 0) 28 q.2.2) := (px_eq.I (by decide)).tr (px_eq.I (by decide))
      have refOf : ∀ (g : cz_H) (m : Nat), g.1.1 ≤ m → fn_X5_frostOf (some m) (Int32.ofNat ky) (Int32.ofNat ko) (px_set g m (px_S (px_I M 0 0) s)) = (if q.1 = q.2.1 then some (.inl (some (cz_i (-1))), px_set g m (px_S (px_I (px_I M 0 0) 28 q.2.2) s)) else (if q.1 ≤ q.2.1 then some (.inl (some (cz_i (Int32.ofNat ky))), px_set g m (px_S (px_I (px_I M 0 0) 28 q.2.2) s)) else some (.inl (some (cz_i (Int32.ofNat ko))), px_set g m (px_S (px_I (px_I M 0 0) 28 q.2.2) s)))) := by
        intro g m hb
        rw [refOf, hf]
        simp only [sp_frk]
        rw [pp_frostDay hb, px_SI]
      by_cases e : q.1 = q.2.1
      · constructor
        · refine ⟨-1, _, _, ?_, ceq, peq, fun g m hb => ?_⟩
          · dsimp only
            rw [fn_X1_frost, cx_rc, comOf, if_pos e, px_cI, if_pos rfl]
          · dsimp only
            rw [fn_X5_frost]
            simp (disch := first | assumption | omega) only [pp_thrown, px_SI, px_rc, pm_areTwo ok, px_cI]
            rw [if_pos t, if_neg (by decide), refOf g m hb, if_pos e, px_cI]
        · refine ⟨-1, _, _, ?_, ceq, peq, fun g m hb => ?_⟩
          · dsimp only
            rw [fn_X1_frostAt, cx_rc, comOf, if_pos e, px_cI, if_pos rfl]
          · dsimp only
            rw [fn_X5_frostAt]
            simp (disch := first | assumption | omega) only [pp_thrown, px_SI, px_rc, pm_areTwo ok, px_cI]
            rw [if_pos t, if_neg (by decide), refOf g m hb, if_pos e, px_cI, if_pos (by decide)]
      · constructor
        · refine ⟨if q.1 ≤ q.2.1 then Int32.ofNat ky else Int32.ofNat ko, _, _, ?_, ceq, peq, fun g m hb => ?_⟩
          · dsimp only
            rw [fn_X1_frost, cx_rc, comOf, if_neg e, px_cI, if_neg (by decide), cg_wins, cx_In (by decide), cx_Ie]
          · dsimp only
            rw [fn_X5_frost]
            simp (disch := first | assumption | omega) only [pp_thrown, px_SI, px_rc, pm_areTwo ok, px_cI]
            rw [if_pos t, if_neg (by decide), refOf g m hb, if_neg e]
            split <;> rw [px_cI]
        · refine ⟨q.2.2, _, _, ?_, ceq, peq, fun g m hb => ?_⟩
          · dsimp only
            rw [fn_X1_frostAt, cx_rc, comOf, if_neg e, px_cI, if_neg (by decide), cg_gives, cx_Ie]
          · dsimp only
            rw [fn_X5_frostAt]
            simp (disch := first | assumption | omega) only [pp_thrown, px_SI, px_rc, pm_areTwo ok, px_cI]
            rw [if_pos t, if_neg (by decide), refOf g m hb, if_neg e]
            split
            · rw [px_cI, if_neg (ep hy), pg_frostDay, px_S1, px_I1]
            · rw [px_cI, if_neg (ep ho), pg_frostDay, px_S1, px_I1]
  · constructor
    · refine ⟨-1, X, px_I M 0 0, ?_, cx_eq.rf, px_eq.I (by decide), fun g m hb => ?_⟩
      · dsimp only
        rw [fn_X1_frost, cx_rc, fn_X1_layFrost, cx_rc, cm_areTwo hc H, px_cI, if_neg t, if_pos rfl, px_cI, if_pos rfl]
      · dsimp only
        rw [fn_X5_frost]
        simp (disch := first | assumption | omega) only [pp_thrown, px_SI, px_rc, pm_areTwo ok, px_cI]
        rw [if_neg t, if_pos rfl]
    · refine ⟨-1, X, px_I M 0 0, ?_, cx_eq.rf, px_eq.I (by decide), fun g m hb => ?_⟩
      · dsimp only
        rw [fn_X1_frostAt, cx_rc, fn_X1_layFrost, cx_rc, cm_areTwo hc H, px_cI, if_neg t, if_pos rfl, px_cI, if_pos rfl]
      · dsimp only
        rw [fn_X5_frostAt]
        simp (disch := first | assumption | omega) only [pp_thrown, px_SI, px_rc, pm_areTwo ok, px_cI]
        rw [if_neg t, if_pos rfl]
end FRA
