/-! THE PLAIN LAW, 43: two who share one; the best of a day -/
set_option maxRecDepth 100000
def sp_H (s : Nat → Int32) (k : Nat) (d a : Int32) : Int32 := sp_chillIn s k d a * sp_chillIn s k d a
/-- one of two days: sum, set of those that are the second's -/
def sp_sh1 (s : Nat → Int32) (y o : Nat) (u v w : Int32) (k : Nat) (a : Int32 × Int32) : Int32 × Int32 :=
  (a.1 + (if sp_H s y (s 62 + Int32.ofNat k) (v ||| u) + sp_H s o (s 62 + Int32.ofNat k) w ≤ sp_H s y (s 62 + Int32.ofNat k) v + sp_H s o (s 62 + Int32.ofNat k) (w ||| u) then sp_H s y (s 62 + Int32.ofNat k) (v ||| u) + sp_H s o (s 62 + Int32.ofNat k) w else sp_H s y (s 62 + Int32.ofNat k) v + sp_H s o (s 62 + Int32.ofNat k) (w ||| u)),
   if sp_H s y (s 62 + Int32.ofNat k) (v ||| u) + sp_H s o (s 62 + Int32.ofNat k) w ≤ sp_H s y (s 62 + Int32.ofNat k) v + sp_H s o (s 62 + Int32.ofNat k) (w ||| u) then a.2 else a.2 ||| ((1 : Int32) <<< (Int32.ofNat k &&& 31)))
section SHA
variable {h g : cz_H} {x c m : Nat} {X : cx_X} {s : Nat → Int32} {nm : Nat → Int64} {M : px_M}
theorem pm_share_106 {y o N : Nat} {u v w : Int32} {k0 : Int32 → cz_H → cz_Z} (hb : g.1.1 ≤ m) (ok : sp_ok s) (hy : y < 6) (ho : o < 6) (h30 : N ≤ 30) : ∀ (n f k : Nat) (a : Int32) (t : Int32), k + n = N → n < f → fn_X5_share_106 (some m) (Int32.ofNat y) (Int32.ofNat o) (Int32.ofNat N) u v w k0 f a (Int32.ofNat k) (px_set g m (px_S (px_I M 26 t) s)) = k0 (sp_fold (sp_sh1 s y o u v w) n k (a, t)).1 (px_set g m (px_S (px_I M 26 (sp_fold (sp_sh1 s y o u v w) n k (a, t)).2) s)) := by
  intro n
  induction n with
  | zero =>
    intro f k a t hk hf
    obtain ⟨f, rfl⟩ : ∃ g, f = g + 1 := ⟨f - 1, by omega⟩
    rw [fn_X5_share_106, if_pos (by rw [px_le (by omega) (by omega)]; omega)]
    rfl
  | succ n ih =>
    intro f k a t hk hf
    obtain ⟨f, rfl⟩ : ∃ g, f = g + 1 := ⟨f - 1, by omega⟩
    rw [fn_X5_share_106, if_neg (by rw [px_le (by omega) (by omega)]; omega)]
    simp (disch := first | assumption | omega) only [qln, qsn, ql_0, ql_1, ql_2, ql_3, ql_4, ql_5, ql_6, ql_7, ql_62, qs_62, ql_63, qs_63, ql_64, qs_64, ql_117, qs_117, ql_118, qs_118, pl_h_0, ps_h_0, pl_h_1, ps_h_1, pl_h_2, ps_h_2, ps_h_4, ps_h_5, ps_h_6, pl_h_7, ps_h_7, ps_reserved_0, ps_reserved_1, ps_reserved_2, ps_reserved_3, ps_reserved_4, ps_reserved_5, ps_reserved_6, ps_reserved_7, ps_reserved_8, ps_reserved_9, ps_reserved_10, ps_reserved_11, ps_reserved_12, ps_reserved_13, ps_reserved_14, ps_reserved_15, ps_reserved_16, ps_reserved_17, ps_reserved_18, ps_reserved_19, ps_reserved_20, ps_reserved_21, ps_reserved_22, ps_reserved_23, pl_toldAt_0, ps_toldAt_0, pl_toldAt_1, ps_toldAt_1, ps_toldAt_2, ps_toldAt_3, pl_truths_0, px_c8, px_c10, px_c16, px_c20, px_c22, px_c30, px_c36, px_c38, px_c46, px_c54, px_c62, px_c65, px_c73, px_c81, px_c89, px_c97, px_c103, px_c109, px_c119, pr_tape, pln_tape, psn_tape, pr_s, pr_h, pln_h, psn_h, pr_read, pln_read, psn_read, pr_names, pln_names, psn_names, pr_reserved, pln_reserved, psn_reserved, pr_undone, pln_undone, psn_undone, pr_before, pln_before, psn_before, pr_sat, pln_sat, psn_sat, pr_toldAt, pln_toldAt, psn_toldAt, pr_stack, pln_stack, psn_stack, pr_truths, pln_truths, psn_truths, pr_kept, pln_kept, psn_kept, pr_namesKept, pln_namesKept, psn_namesKept, pr_areKept, pln_areKept, psn_areKept, px_c1r, px_rc, px_cI, px_cR, px_cV, px_ckz, px_ckz0, px_ckz1, px_getJ, px_putJ, cz_leti, cz_jn, pg_thrown, pp_thrown, pg_length, pp_length, pg_size, pp_size, pg_p, pp_p, pg_limit, pp_limit, pg_token, pp_token, pg_at, pp_at, pg_span, pp_span, pg_number, pp_number, pg_fault, pp_fault, pg_faultAt, pp_faultAt, pg_got, pp_got, pg_lines, pp_lines, pg_onces, pp_onces, pg_undoMany, pp_undoMany, pg_laidSet, pp_laidSet, pg_hasLaid, pp_hasLaid, pg_turnSet, pp_turnSet, pg_hasTurns, pp_hasTurns, pg_frostDay, pp_frostDay, pg_surelySet, pp_surelySet, pg_neverSet, pp_neverSet, pg_hasHooks, pp_hasHooks, pg_priceNow, pp_priceNow, pg_hasPrice, pp_hasPrice, pg_seed, pp_seed, pg_toldMany, pp_toldMany, pg_hasTold, pp_hasTold, pg_codes, pp_codes, pg_ones, pp_ones, pg_top, pp_top, pg_deep, pp_deep, pg_isWhole, pp_isWhole, px_SAne, px_SL, px_SI, px_SW, px_S1, px_S2, px_S4, px_S3, pm_harmIn ok hy, pm_harmIn ok ho, px_I1, px_II, Int32.or_zero]
    rw [sp_fold]
    unfold sp_sh1 sp_H
    dsimp only
    split <;> exact ih f (k + 1) _ _ (by omega) (by omega)
theorem cm_harmIn {k q : Nat} {d w : Int32} (H : cx_st h x X 0 c s nm) (hk : k < sp_n s 1) : fn_X1_harmIn (some x) (Int32.ofNat k) (Int32.ofNat q) w d (cx_set h x X) = some (.inl (some (cz_i (sp_H s k d (if w = 0 then sp_coatsAt s (Int32.ofNat k) &&& (((1 : Int32) <<< (Int32.ofNat q &&& 31)) ^^^ (-1)) else (sp_coatsAt s (Int32.ofNat k) &&& (((1 : Int32) <<< (Int32.ofNat q &&& 31)) ^^^ (-1))) ||| ((1 : Int32) <<< (Int32.ofNat q &&& 31)))))), cx_set h x X) := by
  rw [fn_X1_harmIn]
  simp only [cg_now, n0_rc, n0_wornBy H, px_cI, cz_leti, n0_chill H hk, pc_square]
  unfold sp_H
  split <;> rfl
theorem cm_share_53 {y o q N : Nat} {k0 : Int32 → Int32 → cz_H → cz_Z} (H : cx_st h x X 0 c s nm) (hy : y < sp_n s 1) (ho : o < sp_n s 1) (h30 : N ≤ 30) : ∀ (n f k : Nat) (a : Int32) (t : Int32), k + n = N → n < f → fn_X1_share_53 (some x) (Int32.ofNat y) (Int32.ofNat o) (Int32.ofNat q) (Int32.ofNat N) k0 f a t (Int32.ofNat k) (cx_set h x X) = k0 (sp_fold (sp_sh1 s y o ((1 : Int32) <<< (Int32.ofNat q &&& 31)) (sp_coatsAt s (Int32.ofNat y) &&& (((1 : Int32) <<< (Int32.ofNat q &&& 31)) ^^^ (-1))) (sp_coatsAt s (Int32.ofNat o) &&& (((1 : Int32) <<< (Int32.ofNat q &&& 31)) ^^^ (-1)))) n k (a, t)).1 (sp_fold (sp_sh1 s y o ((1 : Int32) <<< (Int32.ofNat q &&& 31)) (sp_coatsAt s (Int32.ofNat y) &&& (((1 : Int32) <<< (Int32.ofNat q &&& 31)) ^^^ (-1))) (sp_coatsAt s (Int32.ofNat o) &&& (((1 : Int32) <<< (Int32.ofNat q &&& 31)) ^^^ (-1)))) n k (a, t)).2 (cx_set h x X) := by
  intro n
  induction n with
  | zero =>
    intro f k a t hk hf
    obtain ⟨f, rfl⟩ : ∃ g, f = g + 1 := ⟨f - 1, by omega⟩
    rw [fn_X1_share_53, if_pos (by rw [px_le (by omega) (by omega)]; omega)]
    rfl
  | succ n ih =>
    intro f k a t hk hf
    obtain ⟨f, rfl⟩ : ∃ g, f = g + 1 := ⟨f - 1, by omega⟩
    rw [fn_X1_share_53, if_neg (by rw [px_le (by omega) (by omega)]; omega)]
    simp only [cg_now, n0_day, H.2.2.2.1, cz_leti, cx_rc, cm_harmIn H hy, cm_harmIn H ho, px_cI, cz_jn, if_neg (show ¬ (1 : Int32) = 0 by decide), if_true]
    rw [sp_fold]
    unfold sp_sh1
    dsimp only
    split
    · (rename_i e; rw [fn_J11_min, if_neg (Int32.not_lt.mpr e), px_cI, px_c1r]; exact ih f (k + 1) _ _ (by omega) (by omega))
    · (rename_i e; rw [fn_J11_min, if_pos (Int32.not_le.mp e), px_cI, px_c1r]; exact ih f (k + 1) _ _ (by omega) (by omega))
/-- share: both, with what they keep -/
theorem op_share {y o q n : Int32} (hb : h.1.1 ≤ x) (hc : X.2.1 0 = some c) (H : cx_st h x X 0 c s nm) : ∃ (a t : Int32), (fn_X1_share (some x) y o q n (cx_set h x X) = some (.inl (some (cz_i a)), cx_set h x X) ∧ ∀ (g : cz_H) (m : Nat), g.1.1 ≤ m → fn_X5_share (some m) y o q n (px_set g m (px_S M s)) = some (.inl (some (cz_i a)), px_set g m (px_S (px_I M 0 0) s))) ∨ (fn_X1_share (some x) y o q n (cx_set h x X) = some (.inl (some (cz_i a)), cx_set h x (cx_I X 10 t)) ∧ ∀ (g : cz_H) (m : Nat), g.1.1 ≤ m → fn_X5_share (some m) y o q n (px_set g m (px_S M s)) = some (.inl (some (cz_i a)), px_set g m (px_S (px_I (px_I (px_I M 0 0) 27 1) 26 t) s))) := by
  have ok := H.1.1.1.1
  have h6 := ok.2.1.2
  have h8 := ok.2.2.1.2
  have no2 : ¬ ((0 ≤ y ∧ y ≤ Int32.ofNat (sp_n s 1) - 1) ∧ (0 ≤ o ∧ o ≤ Int32.ofNat (sp_n s 1) - 1) ∧ ¬ y = o) → fn_X1_areTwo (some x) y o (cx_set h x X) = some (.inl (some (cz_i 0)), cx_set h x X) := fun hn => by rw [cm_areTwo hc H, if_neg hn]
  by_cases t1 : ¬ (0 ≤ y ∧ y ≤ Int32.ofNat (sp_n s 1) - 1)
  · refine ⟨-1, 0, Or.inl ⟨?_, fun g m hb => ?_⟩⟩
    · rw [fn_X1_share, cx_rc, no2 (fun q => t1 q.1), px_cI, if_pos rfl]
    · rw [fn_X5_share]
      simp (disch := first | assumption | omega) only [pp_thrown, px_SI, px_rc, pm_isMan ok, px_cI]
      rw [if_neg t1, if_pos rfl]
  have t1 := Classical.not_not.mp t1
  by_cases t2 : ¬ (0 ≤ o ∧ o ≤ Int32.ofNat (sp_n s 1) - 1)
  · refine ⟨-1, 0, Or.inl ⟨?_, fun g m hb => ?_⟩⟩
    · rw [fn_X1_share, cx_rc, no2 (fun q => t2 q.2.1), px_cI, if_pos rfl]
    · rw [fn_X5_share]
      simp (disch := first | assumption | omega) only [pp_thrown, px_SI, px_rc, pm_isMan ok, px_cI]
      rw [if_pos t1, if_neg (by decide), if_neg t2, if_pos rfl]
  have t2 := Classical.not_not.mp t2
  by_cases t3 : y = o
  · refine ⟨-1, 0, Or.inl ⟨?_, fun g m hb => ?_⟩⟩
    · rw [fn_X1_share, cx_rc, no2 (fun q => q.2.2 t3), px_cI, if_pos rfl]
    · rw [fn_X5_share]
      simp (disch := first | assumption | omega) only [pp_thrown, px_SI, px_rc, pm_isMan ok, px_cI]
      rw [if_pos t1, if_neg (by decide), if_pos t2, if_neg (by decide), if_pos t3]
  have two : fn_X1_areTwo (some x) y o (cx_set h x X) = some (.inl (some (cz_i 1)), cx_set h x X) := by rw [cm_areTwo hc H, if_pos ⟨t1, t2, t3⟩]
  by_cases t4 : ¬ (0 ≤ q ∧ q ≤ Int32.ofNat (sp_n s 2) - 1)
  · refine ⟨-1, 0, Or.inl ⟨?_, fun g m hb => ?_⟩⟩
    · rw [fn_X1_share, cx_rc, two, px_cI, if_neg (by decide), cx_rc, cm_isCoat hc H, px_cI, if_neg t4, if_pos rfl]
    · rw [fn_X5_share]
      simp (disch := first | assumption | omega) only [pp_thrown, px_SI, px_rc, pm_isMan ok, pm_isCoat ok, px_cI]
      rw [if_pos t1, if_neg (by decide), if_pos t2, if_neg (by decide), if_neg t3, if_neg t4, if_pos rfl]
  have t4 := Classical.not_not.mp t4
  have t4' := t4
  rw [px_range (by omega)] at t4'
  obtain ⟨kq, hq, rfl⟩ := t4'
  have at6 := (H.2.2.2.2.2.2.2.2.1 kq hq).1
  by_cases t5 : s (65 + kq) = 30
  · refine ⟨-1, 0, Or.inl ⟨?_, fun g m hb => ?_⟩⟩
    · rw [fn_X1_share, cx_rc, two, px_cI, if_neg (by decide), cx_rc, cm_isCoat hc H, px_cI, if_pos t4, if_neg (by decide), cg_now, n0_at, n0l_at (by omega), at6, if_pos t5]
    · rw [fn_X5_share]
      simp (disch := first | assumption | omega) only [pp_thrown, px_SI, px_rc, pm_isMan ok, pm_isCoat ok, px_cI]
      rw [if_pos t1, if_neg (by decide), if_pos t2, if_neg (by decide), if_neg t3, if_pos t4, if_neg (by decide), pr_s, px_c65, qln (by omega), if_pos t5]
  by_cases t6 : ¬ (1 ≤ n ∧ n ≤ 30)
  · refine ⟨-1, 0, Or.inl ⟨?_, fun g m hb => ?_⟩⟩
    · rw [fn_X1_share, cx_rc, two, px_cI, if_neg (by decide), cx_rc, cm_isCoat hc H, px_cI, if_pos t4, if_neg (by decide), cg_now, n0_at, n0l_at (by omega), at6, if_neg t5, pc_isIn, px_cI, if_neg t6, if_pos rfl]
    · rw [fn_X5_share]
      simp (disch := first | assumption | omega) only [pp_thrown, px_SI, px_rc, pm_isMan ok, pm_isCoat ok, px_cI]
      rw [if_pos t1, if_neg (by decide), if_pos t2, if_neg (by decide), if_neg t3, if_pos t4, if_neg (by decide), pr_s, px_c65, qln (by omega), if_neg t5, pm_isIn, px_cI, if_neg t6, if_pos rfl]
  have t6 := Classical.not_not.mp t6
  have t1' := t1
  have t2' := t2
  rw [px_range (by omega)] at t1' t2'
  obtain ⟨ky, hy, rfl⟩ := t1'
  obtain ⟨ko, ho, rfl⟩ := t2'
  have t6' : ∃ N, N ≤ 30 ∧ n = Int32.ofNat N := by
    have : (0 : Int32) ≤ n ∧ n ≤ Int32.ofNat 31 - 1 := ⟨Int32.le_trans (by decide) t6.1, t6.2⟩
    rw [px_range (by omega)] at this
    obtain ⟨N, h1, h2⟩ := this
    exact ⟨N, by omega, h2⟩
  obtain ⟨N, hN, rfl⟩ := t6'
  refine ⟨(sp_fold (sp_sh1 s ky ko ((1 : Int32) <<< (Int32.ofNat kq &&& 31)) (sp_coatsAt s (Int32.ofNat ky) &&& (((1 : Int32) <<< (Int32.ofNat kq &&& 31)) ^^^ (-1))) (sp_coatsAt s (Int32.ofNat ko) &&& (((1 : Int32) <<< (Int32.ofNat kq &&& 31)) ^^^ (-1)))) N 0 (0, 0)).1, (sp_fold (sp_sh1 s ky ko ((1 : Int32) <<< (Int32.ofNat kq &&& 31)) (sp_coatsAt s (Int32.ofNat ky) &&& (((1 : Int32) <<< (Int32.ofNat kq &&& 31)) ^^^ (-1))) (sp_coatsAt s (Int32.ofNat ko) &&& (((1 : Int32) <<< (Int32.ofNat kq &&& 31)) ^^^ (-1)))) N 0 (0, 0)).2, Or.inr ⟨?_, fun g m hb => ?_⟩⟩
  · rw [fn_X1_share, cx_rc, two, px_cI, if_neg (by decide), cx_rc, cm_isCoat hc H, px_cI, if_pos t4, if_neg (by decide), cg_now, n0_at, n0l_at (by omega), at6, if_neg t5, pc_isIn, px_cI, if_pos t6, if_neg (by decide)]
    refine (cm_share_53 H hy ho hN N 1000 0 0 0 (Nat.zero_add _) (by omega)).trans ?_
    rw [cp_turns hb]
  · rw [fn_X5_share]
    simp (disch := first | assumption | omega) only [pp_thrown, px_SI, px_rc, pm_isMan ok, pm_isCoat ok, px_cI]
    rw [if_pos t1, if_neg (by decide), if_pos t2, if_neg (by decide), if_neg t3, if_pos t4, if_neg (by decide), pr_s, px_c65, qln (by omega), if_neg t5, pm_isIn, px_cI, if_pos t6, if_neg (by decide)]
    simp (disch := first | assumption | omega) only [cz_leti, px_rc, pm_coatsAt ok, px_cI, pp_turnSet, pp_hasTurns, px_SI]
    rw [px_IC (show 26 ≠ 27 by decide)]
    exact pm_share_106 hb ok (by omega) (by omega) hN N 1000 0 0 0 (Nat.zero_add _) (by omega)
end SHA
