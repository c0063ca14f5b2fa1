/-! THE PLAIN LAW, 47: hooks, on -/
set_option maxRecDepth 100000
theorem sp_sat_congr {s t u : Nat → Int32} : ∀ (n k : Nat) (g : Nat → Int32), (∀ i, k ≤ i → i < k + n → t i = u i) → sp_sat s t n k g = sp_sat s u n k g := by
  intro n
  induction n with
  | zero => intro k g _; rfl
  | succ n ih =>
    intro k g h
    have e := h k (Nat.le_refl _) (by omega)
    rw [sp_sat, sp_sat, e]
    have h' : ∀ i, k + 1 ≤ i → i < k + 1 + n → t i = u i := fun i a b => h i (by omega) (by omega)
    rw [ih (k + 1) g h', ih (k + 1) _ h']
theorem sp_hk1_congr {s t u : Nat → Int32} {N m : Nat} {a : Int32 × Int32 × Int32} (h : ∀ i, i < N → t i = u i) : sp_hk1 s t N m a = sp_hk1 s u N m a := by
  have e : sp_cnt t (Int32.ofNat m) N 0 0 = sp_cnt u (Int32.ofNat m) N 0 0 := by
    unfold sp_cnt
    exact sp_fold_congr _ _ _ fun j b _ h2 => by rw [h j (by omega)]
  unfold sp_hk1
  rw [e]
/-- what 'taken' leaves -/
def sp_tk (M : px_M) (L : Nat) (z : Int32) : px_M := px_I (px_I (px_I (px_I M 3 (Int32.ofNat L)) 2 0) 4 0) 5 z
section HKB
variable {h g : cz_H} {x c m : Nat} {X : cx_X} {s : Nat → Int32} {nm : Nat → Int64} {M : px_M}
theorem pm_taken {L : Nat} {z : Int32} (hb : g.1.1 ≤ m) (hL : M.1 2 = Int32.ofNat L) : fn_X5_taken (some m) z (px_set g m (px_S M s)) = some (.inl none, px_set g m (px_S (sp_tk M L z) s)) := by
  rw [fn_X5_taken]
  simp (disch := first | assumption | omega) only [qln, qsn, ql_0, ql_1, ql_2, ql_3, ql_4, ql_5, ql_6, ql_7, ql_62, qs_62, ql_63, qs_63, ql_64, qs_64, ql_117, qs_117, ql_118, qs_118, pl_h_0, ps_h_0, pl_h_1, ps_h_1, pl_h_2, ps_h_2, ps_h_4, ps_h_5, ps_h_6, pl_h_7, ps_h_7, ps_reserved_0, ps_reserved_1, ps_reserved_2, ps_reserved_3, ps_reserved_4, ps_reserved_5, ps_reserved_6, ps_reserved_7, ps_reserved_8, ps_reserved_9, ps_reserved_10, ps_reserved_11, ps_reserved_12, ps_reserved_13, ps_reserved_14, ps_reserved_15, ps_reserved_16, ps_reserved_17, ps_reserved_18, ps_reserved_19, ps_reserved_20, ps_reserved_21, ps_reserved_22, ps_reserved_23, pl_toldAt_0, ps_toldAt_0, pl_toldAt_1, ps_toldAt_1, ps_toldAt_2, ps_toldAt_3, pl_truths_0, px_c8, px_c10, px_c16, px_c20, px_c22, px_c30, px_c36, px_c38, px_c46, px_c54, px_c62, px_c65, px_c73, px_c81, px_c89, px_c97, px_c103, px_c109, px_c119, pr_tape, pln_tape, psn_tape, pr_s, pr_h, pln_h, psn_h, pr_read, pln_read, psn_read, pr_names, pln_names, psn_names, pr_reserved, pln_reserved, psn_reserved, pr_undone, pln_undone, psn_undone, pr_before, pln_before, psn_before, pr_sat, pln_sat, psn_sat, pr_toldAt, pln_toldAt, psn_toldAt, pr_stack, pln_stack, psn_stack, pr_truths, pln_truths, psn_truths, pr_kept, pln_kept, psn_kept, pr_namesKept, pln_namesKept, psn_namesKept, pr_areKept, pln_areKept, psn_areKept, px_c1r, px_rc, px_cI, px_cR, px_cV, px_ckz, px_ckz0, px_ckz1, px_getJ, px_putJ, cz_leti, cz_jn, pg_thrown, pp_thrown, pg_length, pp_length, pg_size, pp_size, pg_p, pp_p, pg_limit, pp_limit, pg_token, pp_token, pg_at, pp_at, pg_span, pp_span, pg_number, pp_number, pg_fault, pp_fault, pg_faultAt, pp_faultAt, pg_got, pp_got, pg_lines, pp_lines, pg_onces, pp_onces, pg_undoMany, pp_undoMany, pg_laidSet, pp_laidSet, pg_hasLaid, pp_hasLaid, pg_turnSet, pp_turnSet, pg_hasTurns, pp_hasTurns, pg_frostDay, pp_frostDay, pg_surelySet, pp_surelySet, pg_neverSet, pp_neverSet, pg_hasHooks, pp_hasHooks, pg_priceNow, pp_priceNow, pg_hasPrice, pp_hasPrice, pg_seed, pp_seed, pg_toldMany, pp_toldMany, pg_hasTold, pp_hasTold, pg_codes, pp_codes, pg_ones, pp_ones, pg_top, pp_top, pg_deep, pp_deep, pg_isWhole, pp_isWhole, px_SAne, px_SL, px_SI, px_SW, px_S1, px_S2, px_S4, px_S3, hL]
  rfl
theorem sp_tk_eq {L : Nat} {z : Int32} : px_eq (px_I M 2 0) (sp_tk M L z) := by
  unfold sp_tk
  rw [px_IC (show 3 ≠ 2 by decide)]
  exact (px_eq.I (by decide)).tr ((px_eq.I (by decide)).tr (px_eq.I (by decide)))
theorem cm_take {L : Nat} (hb : h.1.1 ≤ x) (hL : X.1 1 = Int32.ofNat L) : fn_X1_take (some x) (cx_set h x X) = some (.inl (some (cz_i (Int32.ofNat L))), cx_set h x (cx_I X 1 0)) := by
  rw [fn_X1_take, cg_taped, cp_taped hb, hL]
theorem px_eq.I2 {N : px_M} {j : Nat} {v : Int32} (h : px_eq M N) : px_eq (px_I M j v) (px_I N j v) := ⟨fun i hi => by
    by_cases e : i = j
    · subst e; rw [px_I1, px_I1]
    · rw [px_I1n e, px_I1n e]; exact h.1 i hi, h.2.1, h.2.2.1, h.2.2.2.1, h.2.2.2.2⟩
theorem px_I00 {v w : Int32} : px_eq (px_I M 2 v) (px_I (px_I M 0 w) 2 v) := by
  rw [px_IC (show 0 ≠ 2 by decide)]
  exact px_eq.I (by decide)
theorem op_hooks {L : Nat} (hb : h.1.1 ≤ x) (hc : X.2.1 0 = some c) (H : cx_st h x X 0 c s nm) (hX : X.1 1 = Int32.ofNat L) (hM : M.1 2 = Int32.ofNat L) (hL : L ≤ 940) (ht : ∀ k, k < 940 → X.2.2.1 0 k = M.2.2.1 1 k) : ∃ (a t u : Int32) (N : px_M), (fn_X1_hooks (some x) (cx_set h x X) = some (.inl (some (cz_i a)), cx_set h x (cx_I X 1 0)) ∧ px_eq (px_I M 2 0) N ∧ ∀ (g : cz_H) (m : Nat), g.1.1 ≤ m → fn_X5_hooks (some m) (px_set g m (px_S M s)) = some (.inl (some (cz_i a)), px_set g m (px_S N s))) ∨ (fn_X1_hooks (some x) (cx_set h x X) = some (.inl (some (cz_i a)), cx_set h x (cx_I (cx_I (cx_I X 1 0) 13 t) 14 u)) ∧ px_eq (px_I M 2 0) N ∧ ∀ (g : cz_H) (m : Nat), g.1.1 ≤ m → fn_X5_hooks (some m) (px_set g m (px_S M s)) = some (.inl (some (cz_i a)), px_set g m (px_S (px_I (px_I (px_I N 31 1) 29 t) 30 u) s))) := by
  have ok := H.1.1.1.1
  have h0 := ok.1.2
  have h6 := ok.2.1.2
  have base : px_eq (px_I M 2 0) (sp_tk (px_I M 0 0) L 940) := px_I00.tr sp_tk_eq
  have com0 : fn_X1_take (some x) (cx_set h x X) = _ := cm_take hb hX
  have H1 : cx_st h x (cx_I X 1 0) 0 c s nm := H
  have hc1 : (cx_I X 1 0).2.1 0 = some c := hc
  have ref0 : ∀ (g : cz_H) (m : Nat), g.1.1 ≤ m → fn_X5_hooks (some m) (px_set g m (px_S M s)) = if L = 0 then some (.inl (some (cz_i (-1))), px_set g m (px_S (sp_tk (px_I M 0 0) L 940) s)) else (if L = sp_n s 0 then fn_X5_hooks_36 (some m) (fun (h16 : cz_H) => fn_X5_hooks_57 (some m) (fun (h65 : cz_H) => some (.inl (some (cz_i (-1))), h65)) (fun (h66 : cz_H) => fn_X5_hooks_128 (some m) (fun (e103 : Int32) (e104 : Int32) (e105 : Int32) (h106 : cz_H) => (if e103 = 0 then some (.inl (some (cz_i 0)), h106) else cz_put h106 (some m) [(5, 31)] (cz_i 1) (fun h107 => cz_put h107 (some m) [(5, 29)] (cz_i e104) (fun h108 => cz_put h108 (some m) [(5, 30)] (cz_i e105) (fun h109 => some (.inl (some (cz_i e103)), h109)))))) 1000 1 0 0 0 h66) 1000 0 h16) 1000 0 (px_set g m (px_S (sp_tk (px_I M 0 0) L 940) s)) else some (.inl (some (cz_i (-1))), px_set g m (px_S (sp_tk (px_I M 0 0) L 940) s))) := by
    intro g m hb
    rw [fn_X5_hooks, pp_thrown hb, px_SI, px_rc, pm_taken (L := L) hb (by rw [px_I1n (by decide)]; exact hM), px_cV]
    have e3 : (sp_tk (px_I M 0 0) L 940).1 3 = Int32.ofNat L := rfl
    rw [pg_size, px_S1, e3, pg_size, px_S1, e3, pr_s, ql_0, ok.1.1]
    have q0 : (Int32.ofNat L = 0) = (L = 0) := by rw [show (0 : Int32) = Int32.ofNat 0 from rfl, px_inj (by omega) (by omega)]
    have q1 : (Int32.ofNat L = Int32.ofNat (sp_n s 0)) = (L = sp_n s 0) := px_inj (by omega) (by omega)
    by_cases a : L = 0
    · rw [if_pos (by rw [q0]; exact a), if_pos a]
    · rw [if_neg (by rw [q0]; exact a), if_neg a]
      by_cases b : L = sp_n s 0
      · rw [if_pos (by rw [q1]; exact b), if_pos b]
      · rw [if_neg (by rw [q1]; exact b), if_neg b]
  have com1 : fn_X1_hooks (some x) (cx_set h x X) = if L = 0 then some (.inl (some (cz_i (-1))), cx_set h x (cx_I X 1 0)) else (if L = sp_n s 0 then fn_X1_hooks_21 (some x) (Int32.ofNat L) (fun (h43 : cz_H) => some (.inl (some (cz_i (-1))), h43)) (fun (h44 : cz_H) => fn_X1_hooks_66 (some x) (Int32.ofNat L) (fun (e90 : Int32) (e91 : Int32) (e92 : Int32) (h93 : cz_H) => (if e90 = 0 then some (.inl (some (cz_i 0)), h93) else cz_put h93 (some x) [(0, 13)] (cz_i e91) (fun h94 => cz_put h94 (some x) [(0, 14)] (cz_i e92) (fun h95 => some (.inl (some (cz_i e90)), h95))))) 1000 1 0 0 0 h44) 1000 0 (cx_set h x (cx_I X 1 0)) else some (.inl (some (cz_i (-1))), cx_set h x (cx_I X 1 0))) := by
    rw [fn_X1_hooks, cx_rc, com0, px_cI, cx_rc, cm_seats hc1 H1, px_cI]
    have q0 : (Int32.ofNat L = 0) = (L = 0) := by rw [show (0 : Int32) = Int32.ofNat 0 from rfl, px_inj (by omega) (by omega)]
    have q1 : (Int32.ofNat L = Int32.ofNat (sp_n s 0)) = (L = sp_n s 0) := px_inj (by omega) (by omega)
    by_cases a : L = 0
    · rw [if_pos (by rw [q0]; exact a), if_pos a]
    · rw [if_neg (by rw [q0]; exact a), if_neg a]
      by_cases b : L = sp_n s 0
      · rw [if_pos (by rw [q1]; exact b), if_pos b]
      · rw [if_neg (by rw [q1]; exact b), if_neg b]
  by_cases a : L = 0
  · exact ⟨-1, 0, 0, _, Or.inl ⟨by rw [com1, if_pos a], base, fun g m hb => by rw [ref0 g m hb, if_pos a]⟩⟩
  by_cases b : L = sp_n s 0
  · have h8 : L ≤ 8 := by omega
    -- the tape
    have tt : ∀ i, i < L → (cx_I X 1 0).2.2.1 0 i = M.2.2.1 1 i := fun i hi => ht i (by omega)
    have M1 : (sp_tk (px_I M 0 0) L 940).2.2.1 1 = M.2.2.1 1 := rfl
    have Z : ∀ j, j < 6 → sp_zs 6 0 ((sp_tk (px_I M 0 0) L 940).2.2.1 32) j = Int32.ofNat ((fun _ => 0 : Nat → Nat) j) := fun j hj => by rw [sp_zs_at, if_pos (by omega)]; rfl
    have se : ∀ z : Nat → Int32, (sp_sat s ((cx_I X 1 0).2.2.1 0) L 0 z) = sp_sat s (M.2.2.1 1) L 0 z := fun z => sp_sat_congr L 0 z (fun i _ hi => tt i (by omega))
    have sv : ∀ z w : Nat → Int32, ∀ n k : Nat, (sp_sat s (M.2.2.1 1) n k z).1 = (sp_sat s (M.2.2.1 1) n k w).1 := by
      intro z w n
      induction n generalizing z w with
      | zero => intro k; rfl
      | succ n ih =>
        intro k
        rw [sp_sat, sp_sat]
        split
        · exact ih _ _ _
        · split
          · exact ih _ _ _
          · rfl
    have ref2 : ∀ (g : cz_H) (m : Nat), g.1.1 ≤ m → fn_X5_hooks (some m) (px_set g m (px_S M s)) = _ := fun g m hb => (ref0 g m hb).trans ((if_neg a).trans (if_pos b))
    have com2 : fn_X1_hooks (some x) (cx_set h x X) = _ := com1.trans ((if_neg a).trans ((if_pos b).trans (cm_hooks_21 hc1 H1 h8 L 1000 0 (sp_zs 6 0 ((sp_tk (px_I M 0 0) L 940).2.2.1 32)) (Nat.zero_add _) (by omega))))
    rw [se] at com2
    have pB : ∀ z : Nat → Int32, px_eq (px_I M 2 0) (px_B (sp_tk (px_I M 0 0) L 940) 32 z) := fun z => base.tr (px_eq.B (by decide))
    have ref3 : ∀ (g : cz_H) (m : Nat), g.1.1 ≤ m → fn_X5_hooks (some m) (px_set g m (px_S M s)) = if (sp_sat s (M.2.2.1 1) L 0 (sp_zs 6 0 ((sp_tk (px_I M 0 0) L 940).2.2.1 32))).1 = true then fn_X5_hooks_128 (some m) (fun (e103 : Int32) (e104 : Int32) (e105 : Int32) (h106 : cz_H) => (if e103 = 0 then some (.inl (some (cz_i 0)), h106) else cz_put h106 (some m) [(5, 31)] (cz_i 1) (fun h107 => cz_put h107 (some m) [(5, 29)] (cz_i e104) (fun h108 => cz_put h108 (some m) [(5, 30)] (cz_i e105) (fun h109 => some (.inl (some (cz_i e103)), h109)))))) 1000 1 0 0 0 (px_set g m (px_S (px_B (sp_tk (px_I M 0 0) L 940) 32 (sp_sat s (M.2.2.1 1) L 0 (sp_zs 6 0 ((sp_tk (px_I M 0 0) L 940).2.2.1 32))).2) s)) else some (.inl (some (cz_i (-1))), px_set g m (px_S (px_B (sp_tk (px_I M 0 0) L 940) 32 (sp_sat s (M.2.2.1 1) L 0 (sp_zs 6 0 ((sp_tk (px_I M 0 0) L 940).2.2.1 32))).2) s)) := by
      intro g m hb
      refine (ref2 g m hb).trans ?_
      have e := pm_hooks_36 (g := g) (m := m) (M := (sp_tk (px_I M 0 0) L 940)) (s := s) (k0 := fun (h16 : cz_H) => fn_X5_hooks_57 (some m) (fun (h65 : cz_H) => some (.inl (some (cz_i (-1))), h65)) (fun (h66 : cz_H) => fn_X5_hooks_128 (some m) (fun (e103 : Int32) (e104 : Int32) (e105 : Int32) (h106 : cz_H) => (if e103 = 0 then some (.inl (some (cz_i 0)), h106) else cz_put h106 (some m) [(5, 31)] (cz_i 1) (fun h107 => cz_put h107 (some m) [(5, 29)] (cz_i e104) (fun h108 => cz_put h108 (some m) [(5, 30)] (cz_i e105) (fun h109 => some (.inl (some (cz_i e103)), h109)))))) 1000 1 0 0 0 h66) 1000 0 h16) hb 6 1000 0 ((sp_tk (px_I M 0 0) L 940).2.2.1 32) rfl (by omega)
      rw [px_Bid] at e
      refine e.trans ?_
      exact pm_hooks_57 (M := (sp_tk (px_I M 0 0) L 940)) hb ok rfl h8 L 1000 0 _ (Nat.zero_add _) (by omega)
    by_cases v : (sp_sat s (M.2.2.1 1) L 0 (sp_zs 6 0 ((sp_tk (px_I M 0 0) L 940).2.2.1 32))).1 = true
    · have hz := sp_sat_is h6 L 0 _ (fun _ => 0) Z v
      have hk : ∀ (n k : Nat) (q : Int32 × Int32 × Int32), sp_fold (sp_hk1 s ((cx_I X 1 0).2.2.1 0) L) n k q = sp_fold (sp_hk1 s (M.2.2.1 1) L) n k q := fun n k q => sp_fold_congr _ _ _ fun j b _ _ => sp_hk1_congr tt
      rw [if_pos v] at com2
      have com3 := com2.trans (cm_hooks_66 hc1 H1 h8 (sp_n s 1) 1000 0 (1, 0, 0) (Nat.zero_add _) (by omega))
      rw [hk] at com3
      have ref4 : ∀ (g : cz_H) (m : Nat), g.1.1 ≤ m → fn_X5_hooks (some m) (px_set g m (px_S M s)) = (fun (e103 : Int32) (e104 : Int32) (e105 : Int32) (h106 : cz_H) => (if e103 = 0 then some (.inl (some (cz_i 0)), h106) else cz_put h106 (some m) [(5, 31)] (cz_i 1) (fun h107 => cz_put h107 (some m) [(5, 29)] (cz_i e104) (fun h108 => cz_put h108 (some m) [(5, 30)] (cz_i e105) (fun h109 => some (.inl (some (cz_i e103)), h109)))))) (sp_fold (sp_hk1 s (M.2.2.1 1) L) (sp_n s 1) 0 (1, 0, 0)).1 (sp_fold (sp_hk1 s (M.2.2.1 1) L) (sp_n s 1) 0 (1, 0, 0)).2.1 (sp_fold (sp_hk1 s (M.2.2.1 1) L) (sp_n s 1) 0 (1, 0, 0)).2.2 (px_set g m (px_S (px_B (sp_tk (px_I M 0 0) L 940) 32 (sp_sat s (M.2.2.1 1) L 0 (sp_zs 6 0 ((sp_tk (px_I M 0 0) L 940).2.2.1 32))).2) s)) := fun g m hb => (ref3 g m hb).trans ((if_pos v).trans (pm_hooks_128 (M := px_B (sp_tk (px_I M 0 0) L 940) 32 (sp_sat s (M.2.2.1 1) L 0 (sp_zs 6 0 ((sp_tk (px_I M 0 0) L 940).2.2.1 32))).2) (t := M.2.2.1 1) ok h8 (fun j hj => by rw [px_B3]; exact hz j hj) (sp_n s 1) 1000 0 (1, 0, 0) (Nat.zero_add _) (by omega)))
      by_cases w0 : (sp_fold (sp_hk1 s (M.2.2.1 1) L) (sp_n s 1) 0 (1, 0, 0)).1 = 0
      · refine ⟨0, 0, 0, _, Or.inl ⟨?_, pB (sp_sat s (M.2.2.1 1) L 0 (sp_zs 6 0 ((sp_tk (px_I M 0 0) L 940).2.2.1 32))).2, fun g m hb => ?_⟩⟩
        · rw [com3, if_pos w0]
        · rw [ref4 g m hb]; dsimp only; rw [if_pos w0]
      · refine ⟨(sp_fold (sp_hk1 s (M.2.2.1 1) L) (sp_n s 1) 0 (1, 0, 0)).1, (sp_fold (sp_hk1 s (M.2.2.1 1) L) (sp_n s 1) 0 (1, 0, 0)).2.1, (sp_fold (sp_hk1 s (M.2.2.1 1) L) (sp_n s 1) 0 (1, 0, 0)).2.2, _, Or.inr ⟨?_, pB (sp_sat s (M.2.2.1 1) L 0 (sp_zs 6 0 ((sp_tk (px_I M 0 0) L 940).2.2.1 32))).2, fun g m hb => ?_⟩⟩
        · rw [com3, if_neg w0, cp_surely hb, cp_never hb]
        · rw [ref4 g m hb]; dsimp only; rw [if_neg w0, pp_hasHooks hb, px_SI, pp_surelySet hb, px_SI, pp_neverSet hb, px_SI]
    · refine ⟨-1, 0, 0, _, Or.inl ⟨?_, pB (sp_sat s (M.2.2.1 1) L 0 (sp_zs 6 0 ((sp_tk (px_I M 0 0) L 940).2.2.1 32))).2, fun g m hb => ?_⟩⟩
      · rw [com2, if_neg v]
      · rw [ref3 g m hb, if_neg v]
  · exact ⟨-1, 0, 0, _, Or.inl ⟨by rw [com1, if_neg a, if_neg b], base, fun g m hb => by rw [ref0 g m hb, if_neg a, if_neg b]⟩⟩
end HKB
