/-! THE PLAIN LAW, 48: what would come -/
set_option maxRecDepth 100000
/-- nothing changes but what days and acts change -/
def sp_mid (s t : Nat → Int32) : Prop := ∀ q, q < 62 ∨ 118 ≤ q → t q = s q
theorem sp_mid.rf {s : Nat → Int32} : sp_mid s s := fun _ _ => rfl
theorem sp_mid.tr {s t u : Nat → Int32} (a : sp_mid s t) (b : sp_mid t u) : sp_mid s u := fun q hq => (b q hq).trans (a q hq)
theorem sp_mid.same {s t : Nat → Int32} (a : sp_mid s t) : sp_same s t := fun q hq => a q (Or.inl hq)
theorem sp_mid_upd {s : Nat → Int32} {j : Nat} {v : Int32} (h1 : 62 ≤ j) (h2 : j < 118) : sp_mid s (upd s j v) := fun q hq => px_une (by omega)
theorem sp_keeps_mid {s : Nat → Int32} {k : Nat} (oq : sp_oq s) (hk : k < sp_n s 2) (hn : s (65 + k) ≠ 20) : sp_mid s (sp_keeps s k) := by
  have h8 := oq.1.2.2.1.2
  obtain ⟨ok, Q, hQ⟩ := oq
  have hl := hQ.len7 ok hk hn
  have hq : (s 117).toNatClampNeg = Q.length := by rw [hQ.2.2.1, Int32.toNatClampNeg_ofNat_of_lt (show Q.length < 2 ^ 31 by omega)]
  unfold sp_keeps
  rw [hq]
  exact ((sp_mid_upd (by omega) (by omega)).tr (sp_mid_upd (by omega) (by omega))).tr (sp_mid_upd (by omega) (by omega))
theorem sp_lying_mid {s : Nat → Int32} {k : Nat} (oq : sp_oq s) (hk : k < sp_n s 2) (hn : s (65 + k) ≠ 20) : sp_mid s (sp_lying s k) := by
  have h8 := oq.1.2.2.1.2
  have m0 : sp_mid s (sp_lying0 s k) := (sp_mid_upd (by omega) (by omega)).tr (sp_mid_upd (by omega) (by omega))
  unfold sp_lying
  split
  · exact m0.tr (sp_mid_upd (by omega) (by omega))
  · split
    · refine m0.tr (sp_keeps_mid ?_ ?_ ?_)
      · obtain ⟨ok, Q, hQ⟩ := oq
        exact ⟨sp_lying0_same.ok ok, Q, sp_lying0_Q hQ ok hk⟩
      · rw [sp_lying0_same.n (by omega)]; exact hk
      · unfold sp_lying0
        rw [px_une (by omega), px_une (by omega)]
        exact hn
    · exact m0
theorem sp_day_mid {s : Nat → Int32} (H : sp_inv s) : sp_mid s (sp_day s) := by
  have h6 := H.1.1.2.1.2
  have h8 := H.1.1.2.2.1.2
  have hr := sp_ruler_lt H.1.1
  have a : sp_mid s (sp_noon s) := by
    unfold sp_noon
    split
    · split
      · exact (sp_mid_upd (by omega) (by omega)).tr (sp_mid_upd (by omega) (by omega))
      · exact sp_mid_upd (by omega) (by omega)
    · exact sp_mid_upd (by omega) (by omega)
  have b : sp_mid s (sp_harms (sp_n s 1) 0 (sp_noon s)) := a.tr (fun q hq => sp_harms_num _ 0 (by omega) q (by omega))
  have c1 := (sp_harms_oq (sp_n s 1) 0 (by omega) (sp_noon_oq H.1)).1
  have c : sp_oq (sp_day3 s) ∧ sp_mid s (sp_day3 s) := by
    refine sp_fold_ind (f := fun k s => if 10 ≤ s (65 + k) ∧ s (65 + k) ≤ 17 then sp_lying s k else s) (fun t => sp_oq t ∧ sp_mid s t) (sp_n s 2) 0 (sp_harms (sp_n s 1) 0 (sp_noon s)) ⟨c1, b⟩ ?_
    intro j t h1 h2 ⟨ht, hm⟩
    split
    · rename_i hi
      have n20 : t (65 + j) ≠ 20 := fun e => by rw [e] at hi; exact absurd hi.2 (by decide)
      have hj : j < sp_n t 2 := by rw [hm.same.n (by omega)]; omega
      exact ⟨sp_lying_oq ht hj n20, hm.tr (sp_lying_mid ht hj n20)⟩
    · exact ⟨ht, hm⟩
  exact c.2.tr (sp_mid_upd (by omega) (by omega))
theorem sp_goes_mid : ∀ (n k : Nat) (s : Nat → Int32), sp_full s → sp_mid s (sp_goes n k s).2 := by
  intro n
  induction n with
  | zero => intro k s _; exact sp_mid.rf
  | succ n ih =>
    intro k s F
    rw [sp_goes]
    split
    · exact sp_mid.rf
    · rename_i e
      rw [sp_day400 F.2.1] at e
      exact (sp_day_mid F.1).tr (ih _ _ (sp_full_day F e))
theorem sp_wears_mid {s : Nat → Int32} {k y : Nat} (F : sp_full s) (hk : k < sp_n s 2) (hy : y < 6) : sp_mid s (sp_wears s (Int32.ofNat y) k) := by
  have h8 := F.1.1.1.2.2.1.2
  obtain ⟨ok, Q, hQ⟩ := F.1.1
  obtain ⟨-, g⟩ := sp_Qwears (x := Int32.ofNat y) hQ ok hk (px_small (q := 20) (by omega) (by decide) (by omega))
  exact fun q hq => g q (by omega) (by omega)
theorem sp_lays_mid {s : Nat → Int32} {k : Nat} {v : Int32} (hk : k < 8) : sp_mid s (sp_lays s k v) := (sp_mid_upd (by omega) (by omega)).tr (sp_mid_upd (by omega) (by omega))
theorem sp_does_mid {s : Nat → Int32} {w k n : Nat} (F : sp_full s) (a : sp_actIn s w k n) : sp_mid s (sp_does w k n s).2 := by
  have h0 := F.1.1.1.1.2
  have h1 := F.1.1.1.2.1.2
  have h8 := F.1.1.1.2.2.1.2
  unfold sp_does
  rcases a with ⟨rfl, a1, a2⟩ | ⟨rfl, a1, a2⟩ | ⟨rfl, a1, a2⟩ | ⟨rfl, a1⟩ | ⟨rfl, a1, a2⟩
  · rw [if_pos rfl]
    dsimp only
    split
    · exact sp_lays_mid (by omega)
    · exact sp_mid.rf
  · rw [if_neg (by decide), if_pos rfl]
    split
    · exact sp_wears_mid F a2 (by omega)
    · exact sp_mid.rf
  · rw [if_neg (by decide), if_neg (by decide), if_pos rfl]
    split
    · exact sp_mid_upd (by omega) (by omega)
    · exact sp_mid.rf
  · rw [if_neg (by decide), if_neg (by decide), if_neg (by decide), if_pos rfl]
    split
    · rename_i e
      exact sp_keeps_mid F.1.1 a1 (sp_lt10 e).1
    · exact sp_mid.rf
  · rw [if_neg (by decide), if_neg (by decide), if_neg (by decide), if_neg (by decide)]
    split
    · exact sp_goes_mid _ _ _ F
    · exact sp_mid.rf
theorem sp_dc_mid {k : Nat} {a : Int32 × (Nat → Int32)} (F : sp_full a.2) (hk : k < sp_n a.2 2) : sp_mid a.2 (sp_dc k a).2 := by
  have h8 := F.1.1.1.2.2.1.2
  have h6 := F.1.1.1.2.1.2
  unfold sp_dc
  split
  · split
    · exact sp_mid.rf
    · dsimp only
      split
      · exact sp_lays_mid (by omega)
      · exact sp_mid.rf
  · split
    · dsimp only
      split
      · obtain ⟨o, e, ho⟩ := F.2.2.2 k hk
        rw [e]
        exact sp_wears_mid F hk (by omega)
      · exact sp_mid.rf
    · split
      · dsimp only
        split
        · rename_i e
          exact sp_keeps_mid F.1.1 hk (sp_lt10 e).1
        · exact sp_mid.rf
      · exact sp_mid.rf
theorem sp_dcs_mid (n k : Nat) (a : Int32 × (Nat → Int32)) (F : sp_full a.2) (hk : k + n ≤ sp_n a.2 2) : sp_mid a.2 (sp_dcs n k a).2 := by
  refine (sp_fold_ind (fun b : Int32 × (Nat → Int32) => (sp_full b.2 ∧ sp_same a.2 b.2) ∧ sp_mid a.2 b.2) n k a ⟨⟨F, sp_same.rf⟩, sp_mid.rf⟩ ?_).2
  intro j b h1 h2 ⟨⟨hb, hs⟩, hm⟩
  have hj : j < sp_n b.2 2 := by rw [hs.n (by omega)]; omega
  obtain ⟨q1, q2⟩ := sp_dc_full (k := j) hb hj
  exact ⟨⟨q1, hs.tr q2⟩, hm.tr (sp_dc_mid hb hj)⟩
theorem sp_dr_mid : ∀ (n k : Nat) (a : Int32 × (Nat → Int32)), sp_full a.2 → sp_mid a.2 (sp_dr n k a).2.2 := by
  intro n
  induction n with
  | zero => intro k a F; exact sp_mid.rf
  | succ n ih =>
    intro k a F
    rw [sp_dr]
    split
    · exact sp_mid.rf
    · rename_i e
      obtain ⟨q1, q2⟩ := sp_dcs_full (sp_n a.2 2) 0 a F (by omega)
      rw [← sp_dcs_62 (sp_n a.2 2) 0 a F (by omega), sp_day400 q1.2.1] at e
      exact ((sp_dcs_mid _ 0 a F (by omega)).tr (sp_day_mid q1.1)).tr (ih (k + 1) ((sp_dcs (sp_n a.2 2) 0 a).1, sp_day (sp_dcs (sp_n a.2 2) 0 a).2) (sp_full_day q1 e))
/-- .. and is taken back -/
theorem sp_back {s t g : Nat → Int32} (h : sp_mid s t) : sp_cp (sp_cp s 62 0 56 0 g) 0 62 56 0 t = s := by
  funext q
  rw [sp_cp_at]
  split
  · rw [sp_cp_at, if_pos (by omega)]
    congr 1
    omega
  · exact h q (by omega)
/-- words that a summer belies -/
noncomputable def sp_wd : Nat → Int32 → (Nat → Int32) → Int32 × (Nat → Int32)
  | 0, a, s => (a, s)
  | n + 1, a, s => if 400 ≤ s 62 then (a, s) else sp_wd n (if sp_ruler s = sp_rulerBy s then a else a + 1) (sp_day s)
theorem sp_wd_mid : ∀ (n : Nat) (a : Int32) (s : Nat → Int32), sp_full s → sp_mid s (sp_wd n a s).2 := by
  intro n
  induction n with
  | zero => intro a s _; exact sp_mid.rf
  | succ n ih =>
    intro a s F
    rw [sp_wd]
    split
    · exact sp_mid.rf
    · rename_i e
      rw [sp_day400 F.2.1] at e
      exact (sp_day_mid F.1).tr (ih _ _ (sp_full_day F e))
/-- the first day on which y rules -/
noncomputable def sp_fs (y : Int32) : Nat → (Nat → Int32) → Int32 × (Nat → Int32)
  | 0, s => (-1, s)
  | n + 1, s => if sp_ruler s = y then (s 62, sp_day s) else sp_fs y n (sp_day s)
theorem sp_fs_mid {y : Int32} : ∀ (n d : Nat) (s : Nat → Int32), sp_full s → s 62 = Int32.ofNat d → d + n = 400 → sp_mid s (sp_fs y n s).2 := by
  intro n
  induction n with
  | zero => intro d s _ _ _; exact sp_mid.rf
  | succ n ih =>
    intro d s F hd hn
    have e : s 62 ≠ 400 := by rw [hd]; exact px_small (q := 400) (by omega) (by decide) (by omega)
    rw [sp_fs]
    split
    · exact sp_day_mid F.1
    · exact (sp_day_mid F.1).tr (ih (d + 1) _ (sp_full_day F e) (by rw [sp_day_62 F.1, hd, px_c1r]) (by omega))
section TRA
variable {h g : cz_H} {x c m : Nat} {X : cx_X} {s : Nat → Int32} {nm : Nat → Int64} {M : px_M}
theorem pm_word_25 {N : Nat} {k0 : Int32 → cz_H → cz_Z} (hb : g.1.1 ≤ m) (hN : N ≤ 60) : ∀ (n f k : Nat) (a : Int32) (s : Nat → Int32), sp_full s → k + n = N → n < f → fn_X5_word_25 (some m) (Int32.ofNat N) k0 f a (Int32.ofNat k) (px_set g m (px_S M s)) = k0 (sp_wd n a s).1 (px_set g m (px_S M (sp_wd n a s).2)) := by
  intro n
  induction n with
  | zero =>
    intro f k a s F hk hf
    obtain ⟨f, rfl⟩ : ∃ g, f = g + 1 := ⟨f - 1, by omega⟩
    rw [fn_X5_word_25, if_pos (by rw [px_le (by omega) (by omega)]; omega)]
    rfl
  | succ n ih =>
    intro f k a s F hk hf
    obtain ⟨f, rfl⟩ : ∃ g, f = g + 1 := ⟨f - 1, by omega⟩
    rw [fn_X5_word_25, if_neg (by rw [px_le (by omega) (by omega)]; omega)]
    simp (disch := first | assumption | omega) only [qln, qsn, ql_0, ql_1, ql_2, ql_3, ql_4, ql_5, ql_6, ql_7, ql_62, qs_62, ql_63, qs_63, ql_64, qs_64, ql_117, qs_117, ql_118, qs_118, pl_h_0, ps_h_0, pl_h_1, ps_h_1, pl_h_2, ps_h_2, ps_h_4, ps_h_5, ps_h_6, pl_h_7, ps_h_7, ps_reserved_0, ps_reserved_1, ps_reserved_2, ps_reserved_3, ps_reserved_4, ps_reserved_5, ps_reserved_6, ps_reserved_7, ps_reserved_8, ps_reserved_9, ps_reserved_10, ps_reserved_11, ps_reserved_12, ps_reserved_13, ps_reserved_14, ps_reserved_15, ps_reserved_16, ps_reserved_17, ps_reserved_18, ps_reserved_19, ps_reserved_20, ps_reserved_21, ps_reserved_22, ps_reserved_23, pl_toldAt_0, ps_toldAt_0, pl_toldAt_1, ps_toldAt_1, ps_toldAt_2, ps_toldAt_3, pl_truths_0, px_c8, px_c10, px_c16, px_c20, px_c22, px_c30, px_c36, px_c38, px_c46, px_c54, px_c62, px_c65, px_c73, px_c81, px_c89, px_c97, px_c103, px_c109, px_c119, pr_tape, pln_tape, psn_tape, pr_s, pr_h, pln_h, psn_h, pr_read, pln_read, psn_read, pr_names, pln_names, psn_names, pr_reserved, pln_reserved, psn_reserved, pr_undone, pln_undone, psn_undone, pr_before, pln_before, psn_before, pr_sat, pln_sat, psn_sat, pr_toldAt, pln_toldAt, psn_toldAt, pr_stack, pln_stack, psn_stack, pr_truths, pln_truths, psn_truths, pr_kept, pln_kept, psn_kept, pr_namesKept, pln_namesKept, psn_namesKept, pr_areKept, pln_areKept, psn_areKept, px_c1r, px_rc, px_cI, px_cR, px_cV, px_ckz, px_ckz0, px_ckz1, px_getJ, px_putJ, cz_leti, cz_jn, pg_thrown, pp_thrown, pg_length, pp_length, pg_size, pp_size, pg_p, pp_p, pg_limit, pp_limit, pg_token, pp_token, pg_at, pp_at, pg_span, pp_span, pg_number, pp_number, pg_fault, pp_fault, pg_faultAt, pp_faultAt, pg_got, pp_got, pg_lines, pp_lines, pg_onces, pp_onces, pg_undoMany, pp_undoMany, pg_laidSet, pp_laidSet, pg_hasLaid, pp_hasLaid, pg_turnSet, pp_turnSet, pg_hasTurns, pp_hasTurns, pg_frostDay, pp_frostDay, pg_surelySet, pp_surelySet, pg_neverSet, pp_neverSet, pg_hasHooks, pp_hasHooks, pg_priceNow, pp_priceNow, pg_hasPrice, pp_hasPrice, pg_seed, pp_seed, pg_toldMany, pp_toldMany, pg_hasTold, pp_hasTold, pg_codes, pp_codes, pg_ones, pp_ones, pg_top, pp_top, pg_deep, pp_deep, pg_isWhole, pp_isWhole, px_SAne, px_SL, px_SI, px_SW, px_S1, px_S2, px_S4, px_S3, pm_ruler F.1.1.1, pm_ruler1 F.1.1.1, pm_day hb F.1.1, Int32.add_zero]
    rw [sp_wd]
    by_cases e : 400 ≤ s 62
    · (rw [if_pos e, if_pos e])
    rw [if_neg e, if_neg e]
    have F2 := sp_full_day F (by rw [sp_day400 F.2.1] at e; exact e)
    split <;> exact ih f (k + 1) _ _ F2 (by omega) (by omega)
theorem cm_word_28 {N : Nat} {k0 : Int32 → cz_H → cz_Z} (hb : h.1.1 ≤ x) (hN : N ≤ 60) : ∀ (n f k : Nat) (a : Int32) (X : cx_X) (s : Nat → Int32), cx_st h x X 1 c s nm → k + n = N → n < f → ∃ R : rx_R, fn_X1_word_28 (some x) (Int32.ofNat N) k0 f a (Int32.ofNat k) (cx_set h x X) = k0 (sp_wd n a s).1 (cx_set h x (cx_G X 1 R)) := by
  intro n
  induction n with
  | zero =>
    intro f k a X s H hk hf
    obtain ⟨f, rfl⟩ : ∃ g, f = g + 1 := ⟨f - 1, by omega⟩
    exact ⟨X.2.2.2.2 1, by rw [fn_X1_word_28, if_pos (by rw [px_le (by omega) (by omega)]; omega), cx_Gid]; rfl⟩
  | succ n ih =>
    intro f k a X s H hk hf
    obtain ⟨f, rfl⟩ : ∃ g, f = g + 1 := ⟨f - 1, by omega⟩
    rw [fn_X1_word_28, if_neg (by rw [px_le (by omega) (by omega)]; omega), cg_trial, n1_rc, n1_isOver H, px_cI, sp_wd]
    by_cases e : s 62 = 400
    · exact ⟨X.2.2.2.2 1, by rw [if_pos e, if_neg (by decide), if_pos (by rw [sp_day400 H.1.2.1]; exact e), cx_Gid]⟩
    · rw [if_neg e, if_pos rfl, if_neg (by rw [sp_day400 H.1.2.1]; exact e), cg_trial, n1_rc, n1_rulerT H, px_cI, cg_trial, n1_rc, n1_rulerF H, px_cI]
      obtain ⟨R, r1, r2⟩ := n1_pass hb H e
      by_cases q : sp_ruler s = sp_rulerBy s
      · obtain ⟨R2, t⟩ := ih f (k + 1) a (cx_G X 1 R) _ r2 (by omega) (by omega)
        refine ⟨R2, ?_⟩
        rw [if_pos q, if_pos q, cg_trial, n1_rc, r1, px_cI]
        simp only [cz_leti, px_c1r]
        rw [t, cx_GG]
      · obtain ⟨R2, t⟩ := ih f (k + 1) (a + 1) (cx_G X 1 R) _ r2 (by omega) (by omega)
        refine ⟨R2, ?_⟩
        rw [if_neg q, if_neg q]
        simp only [cz_leti, px_c1r]
        rw [cg_trial, n1_rc, r1, px_cI, t, cx_GG]
theorem cm_trial (hb : h.1.1 ≤ x) (H : cx_st h x X 0 c s nm) : fn_X3_as (some (x + 16)) (some (x + 8)) (cx_set h x X) = some (.inl (some (cz_r (some (x + 16)))), cx_set h x (cx_G X 1 (rx_as (X.2.2.2.2 1) (X.2.2.2.2 0)))) ∧ cx_st h x (cx_G X 1 (rx_as (X.2.2.2.2 1) (X.2.2.2.2 0))) 1 c s nm := ⟨cx_as (i := 1) (j := 0) hb (by omega) (by omega) (by omega), H.as⟩
theorem px_60 {n : Int32} (h : 1 ≤ n ∧ n ≤ 60) : ∃ N, 1 ≤ N ∧ N ≤ 60 ∧ n = Int32.ofNat N := by
  have : (0 : Int32) ≤ n ∧ n ≤ Int32.ofNat 61 - 1 := ⟨Int32.le_trans (by decide) h.1, h.2⟩
  rw [px_range (by omega)] at this
  obtain ⟨N, h1, rfl⟩ := this
  have h2 := h.1
  rw [show (1 : Int32) = Int32.ofNat 1 from rfl, px_le (by omega) (by omega)] at h2
  exact ⟨N, h2, by omega, rfl⟩
theorem qb_word {n : Int32} (hb : h.1.1 ≤ x) (H : cx_st h x X 0 c s nm) : qb h x X s M (fun r g => fn_X1_word r n g) (fun r g => fn_X5_word r n g) := by
  unfold qb
  dsimp only
  by_cases t : 1 ≤ n ∧ n ≤ 60
  · have t2 := t
    obtain ⟨N, -, hN, rfl⟩ := px_60 t2
    obtain ⟨e1, H1⟩ := cm_trial hb H
    obtain ⟨R, r⟩ := cm_word_28 (k0 := fun (e61 : Int32) (h62 : cz_H) => some (.inl (some (cz_i e61)), h62)) hb hN N 1000 0 0 _ s H1 (Nat.zero_add _) (by omega)
    refine ⟨(sp_wd N 0 s).1, (cx_G (cx_G X 1 (rx_as (X.2.2.2.2 1) (X.2.2.2.2 0))) 1 R), px_B (px_I M 0 0) 22 (sp_cp s 62 0 56 0 (M.2.2.1 22)), ?_, cx_eq.G.tr cx_eq.G, (px_eq.I (by decide)).tr (px_eq.B (by decide)), fun g m hb => ?_⟩
    · rw [fn_X1_word, pc_isIn, px_cI, if_pos t, if_neg (by decide), cg_trial, cg_now, n1_rc, e1, px_cR]
      exact r
    · rw [fn_X5_word]
      simp (disch := first | assumption | omega) only [pp_thrown, px_SI, pm_isIn, px_cI]
      rw [if_pos t, if_neg (by decide), px_rc, pm_tries hb, px_cV]
      refine (pm_word_25 hb hN N 1000 0 0 s H.1 (Nat.zero_add _) (by omega)).trans ?_
      rw [px_rc, pm_back hb, px_cV]
      have e : (px_B (px_I M 0 0) 22 (sp_cp s 62 0 56 0 ((px_I M 0 0).2.2.1 22))).2.2.1 22 = sp_cp s 62 0 56 0 (M.2.2.1 22) := px_B3
      rw [e, sp_back (sp_wd_mid N 0 s H.1)]
      rfl
  · refine ⟨-1, X, px_I M 0 0, ?_, cx_eq.rf, px_eq.I (by decide), fun g m hb => ?_⟩
    · rw [fn_X1_word, pc_isIn, px_cI, if_neg t, if_pos rfl]
    · rw [fn_X5_word]
      simp (disch := first | assumption | omega) only [pp_thrown, px_SI, pm_isIn, px_cI]
      rw [if_neg t, if_pos rfl]
theorem pm_firstOf_6 {y : Int32} {k0 : Int32 → cz_H → cz_Z} (hb : g.1.1 ≤ m) : ∀ (n f d : Nat) (s : Nat → Int32), sp_full s → s 62 = Int32.ofNat d → d + n = 400 → n + 1 < f → fn_X5_firstOf_6 (some m) y k0 f (-1) (px_set g m (px_S M s)) = k0 (sp_fs y n s).1 (px_set g m (px_S M (sp_fs y n s).2)) := by
  intro n
  induction n with
  | zero =>
    intro f d s F hd hn hf
    obtain ⟨f, rfl⟩ : ∃ g, f = g + 1 := ⟨f - 1, by omega⟩
    rw [fn_X5_firstOf_6, if_neg (by decide)]
    simp (disch := first | assumption | omega) only [qln, qsn, ql_0, ql_1, ql_2, ql_3, ql_4, ql_5, ql_6, ql_7, ql_62, qs_62, ql_63, qs_63, ql_64, qs_64, ql_117, qs_117, ql_118, qs_118, pl_h_0, ps_h_0, pl_h_1, ps_h_1, pl_h_2, ps_h_2, ps_h_4, ps_h_5, ps_h_6, pl_h_7, ps_h_7, ps_reserved_0, ps_reserved_1, ps_reserved_2, ps_reserved_3, ps_reserved_4, ps_reserved_5, ps_reserved_6, ps_reserved_7, ps_reserved_8, ps_reserved_9, ps_reserved_10, ps_reserved_11, ps_reserved_12, ps_reserved_13, ps_reserved_14, ps_reserved_15, ps_reserved_16, ps_reserved_17, ps_reserved_18, ps_reserved_19, ps_reserved_20, ps_reserved_21, ps_reserved_22, ps_reserved_23, pl_toldAt_0, ps_toldAt_0, pl_toldAt_1, ps_toldAt_1, ps_toldAt_2, ps_toldAt_3, pl_truths_0, px_c8, px_c10, px_c16, px_c20, px_c22, px_c30, px_c36, px_c38, px_c46, px_c54, px_c62, px_c65, px_c73, px_c81, px_c89, px_c97, px_c103, px_c109, px_c119, pr_tape, pln_tape, psn_tape, pr_s, pr_h, pln_h, psn_h, pr_read, pln_read, psn_read, pr_names, pln_names, psn_names, pr_reserved, pln_reserved, psn_reserved, pr_undone, pln_undone, psn_undone, pr_before, pln_before, psn_before, pr_sat, pln_sat, psn_sat, pr_toldAt, pln_toldAt, psn_toldAt, pr_stack, pln_stack, psn_stack, pr_truths, pln_truths, psn_truths, pr_kept, pln_kept, psn_kept, pr_namesKept, pln_namesKept, psn_namesKept, pr_areKept, pln_areKept, psn_areKept, px_c1r, px_rc, px_cI, px_cR, px_cV, px_ckz, px_ckz0, px_ckz1, px_getJ, px_putJ, cz_leti, cz_jn, pg_thrown, pp_thrown, pg_length, pp_length, pg_size, pp_size, pg_p, pp_p, pg_limit, pp_limit, pg_token, pp_token, pg_at, pp_at, pg_span, pp_span, pg_number, pp_number, pg_fault, pp_fault, pg_faultAt, pp_faultAt, pg_got, pp_got, pg_lines, pp_lines, pg_onces, pp_onces, pg_undoMany, pp_undoMany, pg_laidSet, pp_laidSet, pg_hasLaid, pp_hasLaid, pg_turnSet, pp_turnSet, pg_hasTurns, pp_hasTurns, pg_frostDay, pp_frostDay, pg_surelySet, pp_surelySet, pg_neverSet, pp_neverSet, pg_hasHooks, pp_hasHooks, pg_priceNow, pp_priceNow, pg_hasPrice, pp_hasPrice, pg_seed, pp_seed, pg_toldMany, pp_toldMany, pg_hasTold, pp_hasTold, pg_codes, pp_codes, pg_ones, pp_ones, pg_top, pp_top, pg_deep, pp_deep, pg_isWhole, pp_isWhole, px_SAne, px_SL, px_SI, px_SW, px_S1, px_S2, px_S4, px_S3]
    rw [if_pos (by rw [hd, show (400 : Int32) = Int32.ofNat 400 from rfl, px_le (by omega) (by omega)]; omega)]
    rfl
  | succ n ih =>
    intro f d s F hd hn hf
    obtain ⟨f, rfl⟩ : ∃ g, f = g + 1 := ⟨f - 1, by omega⟩
    have e : s 62 ≠ 400 := by rw [hd]; exact px_small (q := 400) (by omega) (by decide) (by omega)
    rw [fn_X5_firstOf_6, if_neg (by decide)]
    simp (disch := first | assumption | omega) only [qln, qsn, ql_0, ql_1, ql_2, ql_3, ql_4, ql_5, ql_6, ql_7, ql_62, qs_62, ql_63, qs_63, ql_64, qs_64, ql_117, qs_117, ql_118, qs_118, pl_h_0, ps_h_0, pl_h_1, ps_h_1, pl_h_2, ps_h_2, ps_h_4, ps_h_5, ps_h_6, pl_h_7, ps_h_7, ps_reserved_0, ps_reserved_1, ps_reserved_2, ps_reserved_3, ps_reserved_4, ps_reserved_5, ps_reserved_6, ps_reserved_7, ps_reserved_8, ps_reserved_9, ps_reserved_10, ps_reserved_11, ps_reserved_12, ps_reserved_13, ps_reserved_14, ps_reserved_15, ps_reserved_16, ps_reserved_17, ps_reserved_18, ps_reserved_19, ps_reserved_20, ps_reserved_21, ps_reserved_22, ps_reserved_23, pl_toldAt_0, ps_toldAt_0, pl_toldAt_1, ps_toldAt_1, ps_toldAt_2, ps_toldAt_3, pl_truths_0, px_c8, px_c10, px_c16, px_c20, px_c22, px_c30, px_c36, px_c38, px_c46, px_c54, px_c62, px_c65, px_c73, px_c81, px_c89, px_c97, px_c103, px_c109, px_c119, pr_tape, pln_tape, psn_tape, pr_s, pr_h, pln_h, psn_h, pr_read, pln_read, psn_read, pr_names, pln_names, psn_names, pr_reserved, pln_reserved, psn_reserved, pr_undone, pln_undone, psn_undone, pr_before, pln_before, psn_before, pr_sat, pln_sat, psn_sat, pr_toldAt, pln_toldAt, psn_toldAt, pr_stack, pln_stack, psn_stack, pr_truths, pln_truths, psn_truths, pr_kept, pln_kept, psn_kept, pr_namesKept, pln_namesKept, psn_namesKept, pr_areKept, pln_areKept, psn_areKept, px_c1r, px_rc, px_cI, px_cR, px_cV, px_ckz, px_ckz0, px_ckz1, px_getJ, px_putJ, cz_leti, cz_jn, pg_thrown, pp_thrown, pg_length, pp_length, pg_size, pp_size, pg_p, pp_p, pg_limit, pp_limit, pg_token, pp_token, pg_at, pp_at, pg_span, pp_span, pg_number, pp_number, pg_fault, pp_fault, pg_faultAt, pp_faultAt, pg_got, pp_got, pg_lines, pp_lines, pg_onces, pp_onces, pg_undoMany, pp_undoMany, pg_laidSet, pp_laidSet, pg_hasLaid, pp_hasLaid, pg_turnSet, pp_turnSet, pg_hasTurns, pp_hasTurns, pg_frostDay, pp_frostDay, pg_surelySet, pp_surelySet, pg_neverSet, pp_neverSet, pg_hasHooks, pp_hasHooks, pg_priceNow, pp_priceNow, pg_hasPrice, pp_hasPrice, pg_seed, pp_seed, pg_toldMany, pp_toldMany, pg_hasTold, pp_hasTold, pg_codes, pp_codes, pg_ones, pp_ones, pg_top, pp_top, pg_deep, pp_deep, pg_isWhole, pp_isWhole, px_SAne, px_SL, px_SI, px_SW, px_S1, px_S2, px_S4, px_S3, pm_ruler F.1.1.1, pm_day hb F.1.1]
    rw [if_neg (by rw [sp_day400 F.2.1]; exact e), sp_fs]
    split
    · obtain ⟨f, rfl⟩ : ∃ g, f = g + 1 := ⟨f - 1, by omega⟩
      rw [fn_X5_firstOf_6, hd, if_pos (px_nn d (by omega))]
    · exact ih f (d + 1) _ (sp_full_day F e) (by rw [sp_day_62 F.1, hd, px_c1r]) (by omega) (by omega)
theorem cm_firstDay_12 {y : Int32} {k0 k1 : cz_H → cz_Z} (hb : h.1.1 ≤ x) : ∀ (n f d : Nat) (X : cx_X) (s : Nat → Int32), cx_st h x X 1 c s nm → s 62 = Int32.ofNat d → d + n = 400 → n < f → ∃ (R : rx_R) (w : Bool), fn_X1_firstDay_12 (some x) y k0 k1 f (cx_set h x X) = (if w = true then k0 (cx_set h x (cx_G X 1 R)) else k1 (cx_set h x (cx_G X 1 R))) ∧ (sp_fs y n s).1 = if w = true then R.2.1 1 else -1 := by
  intro n
  induction n with
  | zero =>
    intro f d X s H hd hn hf
    obtain ⟨f, rfl⟩ : ∃ g, f = g + 1 := ⟨f - 1, by omega⟩
    refine ⟨X.2.2.2.2 1, false, ?_, rfl⟩
    rw [fn_X1_firstDay_12, cg_trial, n1_rc, n1_isOver H, px_cI, if_pos (show s 62 = 400 by rw [hd, show d = 400 by omega]; rfl), if_neg (by decide), cx_Gid]
    rfl
  | succ n ih =>
    intro f d X s H hd hn hf
    obtain ⟨f, rfl⟩ : ∃ g, f = g + 1 := ⟨f - 1, by omega⟩
    have e : s 62 ≠ 400 := by rw [hd]; exact px_small (q := 400) (by omega) (by decide) (by omega)
    rw [fn_X1_firstDay_12, cg_trial, n1_rc, n1_isOver H, px_cI, if_neg e, if_pos rfl, cg_trial, n1_rc, n1_rulerT H, px_cI, sp_fs]
    by_cases q : sp_ruler s = y
    · refine ⟨X.2.2.2.2 1, true, ?_, ?_⟩
      · rw [if_pos q, cx_Gid]; rfl
      · rw [if_pos q, H.2.2.2.1]; rfl
    · obtain ⟨R, r1, r2⟩ := n1_pass hb H e
      obtain ⟨R2, w, t1, t2⟩ := ih f (d + 1) (cx_G X 1 R) _ r2 (by rw [sp_day_62 H.1.1, hd, px_c1r]) (by omega) (by omega)
      refine ⟨R2, w, ?_, ?_⟩
      · rw [if_neg q, cg_trial, n1_rc, r1, px_cI, t1, cx_GG]
      · rw [if_neg q]; exact t2
theorem qb_firstOf {y : Int32} (hb : h.1.1 ≤ x) (H : cx_st h x X 0 c s nm) : ∃ (a : Int32) (Y : cx_X), fn_X1_firstDay (some x) y (cx_set h x X) = some (.inl (some (cz_i a)), cx_set h x Y) ∧ cx_eq X Y ∧ ∀ (g : cz_H) (m : Nat) (M : px_M), g.1.1 ≤ m → fn_X5_firstOf (some m) y (px_set g m (px_S M s)) = some (.inl (some (cz_i a)), px_set g m (px_S (px_B M 22 (sp_cp s 62 0 56 0 (M.2.2.1 22))) s)) := by
  obtain ⟨d, ed, hd⟩ := H.1.2.1
  obtain ⟨e1, H1⟩ := cm_trial hb H
  obtain ⟨R, w, t1, t2⟩ := cm_firstDay_12 (y := y) (k0 := fun (h38 : cz_H) => cz_getR h38 (some x) [(0, 5)] (fun r39 => cz_getI h38 r39 [(3, 1)] (fun x40 => some (.inl (some (cz_i x40)), h38)))) (k1 := fun (h41 : cz_H) => some (.inl (some (cz_i (-1))), h41)) hb (400 - d) 1000 d _ s H1 ed (by omega) (by omega)
  refine ⟨(sp_fs y (400 - d) s).1, (cx_G (cx_G X 1 (rx_as (X.2.2.2.2 1) (X.2.2.2.2 0))) 1 R), ?_, cx_eq.G.tr cx_eq.G, fun g m M hb => ?_⟩
  · rw [fn_X1_firstDay, cg_trial, cg_now, n1_rc, e1, px_cR]
    refine t1.trans ?_
    rw [t2]
    cases w with
    | true =>
      rw [if_pos rfl, if_pos rfl, cg_trial, n1_day, cx_Ge]
    | false =>
      rw [if_neg (by decide), if_neg (by decide)]
  · rw [fn_X5_firstOf, px_rc, pm_tries hb, px_cV]
    refine (pm_firstOf_6 hb (400 - d) 1000 d s H.1 ed (by omega) (by omega)).trans ?_
    rw [px_rc, pm_back hb, px_cV, px_B3, sp_back (sp_fs_mid (400 - d) d s H.1 ed (by omega))]
theorem qb_bare (hb : h.1.1 ≤ x) (H : cx_st h x X 0 c s nm) : qb h x X s M (fun r g => fn_X1_bare r g) (fun r g => fn_X5_bare r g) := by
  obtain ⟨a, Y, q1, q2, q3⟩ := qb_firstOf (y := -1) hb H
  refine ⟨a, Y, px_B (px_I M 0 0) 22 (sp_cp s 62 0 56 0 (M.2.2.1 22)), ?_, q2, (px_eq.I (by decide)).tr (px_eq.B (by decide)), fun g m hb => ?_⟩
  · dsimp only
    rw [fn_X1_bare, cx_rc, q1, px_cI]
  · dsimp only
    rw [fn_X5_bare]
    simp (disch := first | assumption | omega) only [pp_thrown, px_SI, px_rc]
    rw [q3 g m _ hb, px_cI]
    rfl
theorem qb_rules {y : Int32} (hb : h.1.1 ≤ x) (hc : X.2.1 0 = some c) (H : cx_st h x X 0 c s nm) : qb h x X s M (fun r g => fn_X1_rules r y g) (fun r g => fn_X5_rules r y g) := by
  have ok := H.1.1.1.1
  unfold qb
  dsimp only
  by_cases t : 0 ≤ y ∧ y ≤ Int32.ofNat (sp_n s 1) - 1
  · obtain ⟨a, Y, q1, q2, q3⟩ := qb_firstOf (y := y) hb H
    refine ⟨a, Y, px_B (px_I M 0 0) 22 (sp_cp s 62 0 56 0 (M.2.2.1 22)), ?_, q2, (px_eq.I (by decide)).tr (px_eq.B (by decide)), fun g m hb => ?_⟩
    · rw [fn_X1_rules, cx_rc, cm_isMan hc H, px_cI, if_pos t, if_neg (by decide), cx_rc, q1, px_cI]
    · rw [fn_X5_rules]
      simp (disch := first | assumption | omega) only [pp_thrown, px_SI, px_rc, pm_isMan ok, px_cI]
      rw [if_pos t, if_neg (by decide), q3 g m _ hb, px_cI]
      rfl
  · refine ⟨-1, X, px_I M 0 0, ?_, cx_eq.rf, px_eq.I (by decide), fun g m hb => ?_⟩
    · rw [fn_X1_rules, cx_rc, cm_isMan hc H, px_cI, if_neg t, if_pos rfl]
    · rw [fn_X5_rules]
      simp (disch := first | assumption | omega) only [pp_thrown, px_SI, px_rc, pm_isMan ok, px_cI]
      rw [if_neg t, if_pos rfl]
end TRA
