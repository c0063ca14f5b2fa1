/-! THE PLAIN LAW, 30: draws -/
set_option maxRecDepth 100000
/-- draws: not to be computed by the kernel -/
theorem sp_rnd_ex : ∃ f : Int32 → Int32, ∀ x, (x * 1103515245) + 12345 = f x := ⟨_, fun _ => rfl⟩
noncomputable def sp_rnd : Int32 → Int32 := Classical.choose sp_rnd_ex
theorem sp_rnd_eq (x : Int32) : (x * 1103515245) + 12345 = sp_rnd x := Classical.choose_spec sp_rnd_ex x
theorem sp_rem_ex : ∃ f : Int32 → Int32 → Int32, ∀ x n, (((x).toUInt32 >>> (((8 : Int32)).toUInt32 &&& Int32.toUInt32 31)).toInt32) - (((x).toUInt32 >>> (((8 : Int32)).toUInt32 &&& Int32.toUInt32 31)).toInt32) / n * n = f x n := ⟨_, fun _ _ => rfl⟩
noncomputable def sp_rem : Int32 → Int32 → Int32 := Classical.choose sp_rem_ex
theorem sp_rem_eq (x n : Int32) : (((x).toUInt32 >>> (((8 : Int32)).toUInt32 &&& Int32.toUInt32 31)).toInt32) - (((x).toUInt32 >>> (((8 : Int32)).toUInt32 &&& Int32.toUInt32 31)).toInt32) / n * n = sp_rem x n := Classical.choose_spec sp_rem_ex x n
theorem sp_rem_is {x : Int32} {n : Nat} (h0 : 0 < n) (hn : n < 1000) : ∃ y, y < n ∧ sp_rem x (Int32.ofNat n) = Int32.ofNat y := by
  rw [← sp_rem_eq]
  have e8 : (((8 : Int32)).toUInt32 &&& Int32.toUInt32 31) = 8 := by decide
  rw [e8]
  have hz : ∃ z, z < 16777216 ∧ ((x).toUInt32 >>> 8).toInt32 = Int32.ofNat z := by
    refine ⟨((x).toUInt32 >>> 8).toNat, ?_, ?_⟩
    · rw [UInt32.toNat_shiftRight]
      have := x.toUInt32.toNat_lt
      show x.toUInt32.toNat >>> 8 < 16777216
      rw [Nat.shiftRight_eq_div_pow]
      omega
    · apply Int32.toBitVec_inj.mp
      apply BitVec.eq_of_toNat_eq
      have := (x.toUInt32 >>> 8).toNat_lt
      show (x.toUInt32 >>> 8).toNat = (BitVec.ofNat 32 (x.toUInt32 >>> 8).toNat).toNat
      rw [BitVec.toNat_ofNat, Nat.mod_eq_of_lt (by omega)]
  obtain ⟨z, hz, e⟩ := hz
  rw [e]
  have hd : Int32.ofNat z / Int32.ofNat n = Int32.ofNat (z / n) := by
    apply Int32.toInt_inj.mp
    have hq : z / n ≤ z := Nat.div_le_self z n
    generalize hw : z / n = w at hq
    rw [Int32.toInt_div, Int32.toInt_ofNat_small (by omega), Int32.toInt_ofNat_small (by omega), Int32.toInt_ofNat_small (by omega), ← Int.ofNat_tdiv, hw]
    apply Int.bmod_eq_of_le <;> omega
  have hq : z / n * n ≤ z := Nat.div_mul_le_self z n
  refine ⟨z % n, Nat.mod_lt _ h0, ?_⟩
  rw [hd, ← Int32.ofNat_mul]
  apply Int32.toInt_inj.mp
  have hm : z % n = z - z / n * n := by
    have := Nat.div_add_mod z n
    rw [Nat.mul_comm] at this
    omega
  rw [Int32.toInt_sub, Int32.toInt_ofNat_small (by omega), Int32.toInt_ofNat_small (by omega), Int32.toInt_ofNat_small (by omega), hm]
  have : ((z - z / n * n : Nat) : Int) = (z : Int) - ((z / n * n : Nat) : Int) := by omega
  rw [this]
  apply Int.bmod_eq_of_le <;> omega
/-- one coat's draw -/
noncomputable def sp_dc (k : Nat) (a : Int32 × (Nat → Int32)) : Int32 × (Nat → Int32) :=
  if sp_rem (sp_rnd a.1) 6 = 0 then (if a.2 0 = 0 then (sp_rnd a.1, a.2) else (sp_rnd (sp_rnd a.1), if sp_whyLay a.2 k (sp_rem (sp_rnd (sp_rnd a.1)) (a.2 0)) = 0 then sp_lays a.2 k (sp_rem (sp_rnd (sp_rnd a.1)) (a.2 0)) else a.2))
  else if sp_rem (sp_rnd a.1) 6 = 1 then (sp_rnd a.1, if sp_whyWear a.2 (a.2 (22 + k)) k = 0 then sp_wears a.2 (a.2 (22 + k)) k else a.2)
  else if sp_rem (sp_rnd a.1) 6 = 2 then (sp_rnd a.1, if a.2 (65 + k) < 10 then sp_keeps a.2 k else a.2)
  else (sp_rnd a.1, a.2)
theorem sp_rem_seat {x : Int32} {s : Nat → Int32} (ok : sp_ok s) (h0 : s 0 ≠ 0) : ∃ y, y < sp_n s 0 ∧ y < 8 ∧ sp_rem x (s 0) = Int32.ofNat y := by
  have h8 := ok.1.2
  have hp : 0 < sp_n s 0 := by
    rcases Nat.eq_zero_or_pos (sp_n s 0) with e | e
    · exact absurd (by rw [ok.1.1, e]; rfl) h0
    · exact e
  obtain ⟨y, h1, h2⟩ := sp_rem_is (x := x) hp (by omega)
  exact ⟨y, h1, by omega, by rw [ok.1.1]; exact h2⟩
theorem sp_dc_full {k : Nat} {a : Int32 × (Nat → Int32)} (F : sp_full a.2) (hk : k < sp_n a.2 2) : sp_full (sp_dc k a).2 ∧ sp_same a.2 (sp_dc k a).2 := by
  have h8 := F.1.1.1.2.2.1.2
  have h6 := F.1.1.1.2.1.2
  unfold sp_dc
  split
  · split
    · exact ⟨F, sp_same.rf⟩
    · rename_i e0
      obtain ⟨y, -, y8, ey⟩ := sp_rem_seat (x := sp_rnd (sp_rnd a.1)) F.1.1.1 e0
      rw [ey]
      dsimp only
      split
      · rename_i e
        exact ⟨sp_full_lays F hk y8 (sp_lt10 (sp_whyLay0 e)).1, fun q hq => by unfold sp_lays; rw [px_une (by omega), px_une (by omega)]⟩
      · exact ⟨F, sp_same.rf⟩
  · split
    · dsimp only
      split
      · obtain ⟨o, e, ho⟩ := F.2.2.2 k hk
        rw [e]
        exact sp_full_wears F hk (by omega)
      · exact ⟨F, sp_same.rf⟩
    · split
      · dsimp only
        split
        · rename_i e
          exact ⟨sp_full_keeps F hk (sp_lt10 e).1, sp_keeps_same⟩
        · exact ⟨F, sp_same.rf⟩
      · exact ⟨F, sp_same.rf⟩
noncomputable def sp_dcs : Nat → Nat → Int32 × (Nat → Int32) → Int32 × (Nat → Int32) := sp_fold sp_dc
theorem sp_dcs_full (n k : Nat) (a : Int32 × (Nat → Int32)) (F : sp_full a.2) (hk : k + n ≤ sp_n a.2 2) : sp_full (sp_dcs n k a).2 ∧ sp_same a.2 (sp_dcs n k a).2 := by
  refine sp_fold_ind (fun b : Int32 × (Nat → Int32) => sp_full b.2 ∧ sp_same a.2 b.2) n k a ⟨F, sp_same.rf⟩ ?_
  intro j b h1 h2 ⟨hb, hs⟩
  obtain ⟨q1, q2⟩ := sp_dc_full (k := j) hb (by rw [hs.n (by omega)]; omega)
  exact ⟨q1, hs.tr q2⟩
noncomputable def sp_dr : Nat → Nat → Int32 × (Nat → Int32) → Nat × Int32 × (Nat → Int32)
  | 0, k, a => (k, a)
  | n + 1, k, a => if 400 ≤ a.2 62 then (k, a) else sp_dr n (k + 1) ((sp_dcs (sp_n a.2 2) 0 a).1, sp_day (sp_dcs (sp_n a.2 2) 0 a).2)
theorem sp_lays_62 {s : Nat → Int32} {k : Nat} {v : Int32} : sp_lays s k v 62 = s 62 := by unfold sp_lays; rw [px_une (by omega), px_une (by omega)]
theorem sp_keeps_62 {s : Nat → Int32} {k : Nat} : sp_keeps s k 62 = s 62 := by unfold sp_keeps; rw [px_une (by omega), px_une (by omega), px_une (by omega)]
theorem sp_dc_62 {k : Nat} {a : Int32 × (Nat → Int32)} (F : sp_full a.2) (hk : k < sp_n a.2 2) : (sp_dc k a).2 62 = a.2 62 := by
  have h8 := F.1.1.1.2.2.1.2
  have h6 := F.1.1.1.2.1.2
  unfold sp_dc
  split
  · split
    · rfl
    · dsimp only
      split
      · exact sp_lays_62
      · rfl
  · split
    · dsimp only
      split
      · obtain ⟨o, e, ho⟩ := F.2.2.2 k hk
        obtain ⟨ok, Q, hQ⟩ := F.1.1
        rw [e]
        exact (sp_Qwears (x := Int32.ofNat o) hQ ok hk (px_small (q := 20) (by omega) (by decide) (by omega))).2 62 (by omega) (by omega)
      · rfl
    · split
      · dsimp only
        split
        · exact sp_keeps_62
        · rfl
      · rfl
theorem sp_dcs_62 (n k : Nat) (a : Int32 × (Nat → Int32)) (F : sp_full a.2) (hk : k + n ≤ sp_n a.2 2) : (sp_dcs n k a).2 62 = a.2 62 := by
  refine (sp_fold_ind (fun b : Int32 × (Nat → Int32) => (sp_full b.2 ∧ sp_same a.2 b.2) ∧ b.2 62 = a.2 62) n k a ⟨⟨F, sp_same.rf⟩, rfl⟩ ?_).2
  intro j b h1 h2 ⟨⟨hb, hs⟩, he⟩
  have hj : j < sp_n b.2 2 := by rw [hs.n (by omega)]; omega
  obtain ⟨q1, q2⟩ := sp_dc_full (k := j) hb hj
  exact ⟨⟨q1, hs.tr q2⟩, (sp_dc_62 hb hj).trans he⟩
theorem sp_dr_full : ∀ (n k : Nat) (a : Int32 × (Nat → Int32)), sp_full a.2 → sp_full (sp_dr n k a).2.2 ∧ sp_same a.2 (sp_dr n k a).2.2 := by
  intro n
  induction n with
  | zero => intro k a F; exact ⟨F, sp_same.rf⟩
  | succ n ih =>
    intro k a F
    rw [sp_dr]
    split
    · exact ⟨F, sp_same.rf⟩
    · rename_i e
      obtain ⟨q1, q2⟩ := sp_dcs_full (sp_n a.2 2) 0 a F (by omega)
      rw [← sp_dcs_62 (sp_n a.2 2) 0 a F (by omega), sp_day400 q1.2.1] at e
      obtain ⟨q3, q4⟩ := ih (k + 1) ((sp_dcs (sp_n a.2 2) 0 a).1, sp_day (sp_dcs (sp_n a.2 2) 0 a).2) (sp_full_day q1 e)
      exact ⟨q3, (q2.tr (sp_day_oq q1.1.1).2).tr q4⟩
section SPF
variable {h : cz_H} {m : Nat} {M : px_M} {s : Nat → Int32}
theorem pm_draw {x n : Int32} (hb : h.1.1 ≤ m) (hn : n ≠ 0) : fn_X5_draw (some m) n (px_set h m (px_S (px_I M 35 x) s)) = some (.inl (some (cz_i (sp_rem (sp_rnd x) n))), px_set h m (px_S (px_I M 35 (sp_rnd x)) s)) := by
  rw [fn_X5_draw]
  simp (disch := first | assumption | omega) only [qln, qsn, ql_0, ql_1, ql_2, ql_3, ql_4, ql_5, ql_6, ql_7, ql_62, qs_62, ql_63, qs_63, ql_64, qs_64, ql_117, qs_117, ql_118, qs_118, pl_h_0, ps_h_0, pl_h_1, ps_h_1, pl_h_2, ps_h_2, ps_h_4, ps_h_5, ps_h_6, pl_h_7, ps_h_7, ps_reserved_0, ps_reserved_1, ps_reserved_2, ps_reserved_3, ps_reserved_4, ps_reserved_5, ps_reserved_6, ps_reserved_7, ps_reserved_8, ps_reserved_9, ps_reserved_10, ps_reserved_11, ps_reserved_12, ps_reserved_13, ps_reserved_14, ps_reserved_15, ps_reserved_16, ps_reserved_17, ps_reserved_18, ps_reserved_19, ps_reserved_20, ps_reserved_21, ps_reserved_22, ps_reserved_23, pl_toldAt_0, ps_toldAt_0, pl_toldAt_1, ps_toldAt_1, ps_toldAt_2, ps_toldAt_3, pl_truths_0, px_c8, px_c10, px_c16, px_c20, px_c22, px_c30, px_c36, px_c38, px_c46, px_c54, px_c62, px_c65, px_c73, px_c81, px_c89, px_c97, px_c103, px_c109, px_c119, pr_tape, pln_tape, psn_tape, pr_s, pr_h, pln_h, psn_h, pr_read, pln_read, psn_read, pr_names, pln_names, psn_names, pr_reserved, pln_reserved, psn_reserved, pr_undone, pln_undone, psn_undone, pr_before, pln_before, psn_before, pr_sat, pln_sat, psn_sat, pr_toldAt, pln_toldAt, psn_toldAt, pr_stack, pln_stack, psn_stack, pr_truths, pln_truths, psn_truths, pr_kept, pln_kept, psn_kept, pr_namesKept, pln_namesKept, psn_namesKept, pr_areKept, pln_areKept, psn_areKept, px_c1r, px_rc, px_cI, px_cR, px_cV, px_ckz, px_ckz0, px_ckz1, px_getJ, px_putJ, cz_leti, cz_jn, pg_thrown, pp_thrown, pg_length, pp_length, pg_size, pp_size, pg_p, pp_p, pg_limit, pp_limit, pg_token, pp_token, pg_at, pp_at, pg_span, pp_span, pg_number, pp_number, pg_fault, pp_fault, pg_faultAt, pp_faultAt, pg_got, pp_got, pg_lines, pp_lines, pg_onces, pp_onces, pg_undoMany, pp_undoMany, pg_laidSet, pp_laidSet, pg_hasLaid, pp_hasLaid, pg_turnSet, pp_turnSet, pg_hasTurns, pp_hasTurns, pg_frostDay, pp_frostDay, pg_surelySet, pp_surelySet, pg_neverSet, pp_neverSet, pg_hasHooks, pp_hasHooks, pg_priceNow, pp_priceNow, pg_hasPrice, pp_hasPrice, pg_seed, pp_seed, pg_toldMany, pp_toldMany, pg_hasTold, pp_hasTold, pg_codes, pp_codes, pg_ones, pp_ones, pg_top, pp_top, pg_deep, pp_deep, pg_isWhole, pp_isWhole, px_SAne, px_SL, px_SI, px_SW, px_S1, px_S2, px_S4, px_S3, px_I1, px_II]
  rw [if_neg hn, sp_rnd_eq, sp_rem_eq]
theorem pm_drawsCoat {x : Int32} {k : Nat} (hb : h.1.1 ≤ m) (F : sp_full s) (hk : k < sp_n s 2) : fn_X5_drawsCoat (some m) (Int32.ofNat k) (px_set h m (px_S (px_I M 35 x) s)) = some (.inl none, px_set h m (px_S (px_I M 35 (sp_dc k (x, s)).1) (sp_dc k (x, s)).2)) := by
  have h8 := F.1.1.1.2.2.1.2
  have h6 := F.1.1.1.2.1.2
  obtain ⟨ok, Q, hQ⟩ := F.1.1
  have hl := hQ.len ok
  rw [fn_X5_drawsCoat]
  simp (disch := first | assumption | omega | decide) only [qln, qsn, ql_0, ql_1, ql_2, ql_3, ql_4, ql_5, ql_6, ql_7, ql_62, qs_62, ql_63, qs_63, ql_64, qs_64, ql_117, qs_117, ql_118, qs_118, pl_h_0, ps_h_0, pl_h_1, ps_h_1, pl_h_2, ps_h_2, ps_h_4, ps_h_5, ps_h_6, pl_h_7, ps_h_7, ps_reserved_0, ps_reserved_1, ps_reserved_2, ps_reserved_3, ps_reserved_4, ps_reserved_5, ps_reserved_6, ps_reserved_7, ps_reserved_8, ps_reserved_9, ps_reserved_10, ps_reserved_11, ps_reserved_12, ps_reserved_13, ps_reserved_14, ps_reserved_15, ps_reserved_16, ps_reserved_17, ps_reserved_18, ps_reserved_19, ps_reserved_20, ps_reserved_21, ps_reserved_22, ps_reserved_23, pl_toldAt_0, ps_toldAt_0, pl_toldAt_1, ps_toldAt_1, ps_toldAt_2, ps_toldAt_3, pl_truths_0, px_c8, px_c10, px_c16, px_c20, px_c22, px_c30, px_c36, px_c38, px_c46, px_c54, px_c62, px_c65, px_c73, px_c81, px_c89, px_c97, px_c103, px_c109, px_c119, pr_tape, pln_tape, psn_tape, pr_s, pr_h, pln_h, psn_h, pr_read, pln_read, psn_read, pr_names, pln_names, psn_names, pr_reserved, pln_reserved, psn_reserved, pr_undone, pln_undone, psn_undone, pr_before, pln_before, psn_before, pr_sat, pln_sat, psn_sat, pr_toldAt, pln_toldAt, psn_toldAt, pr_stack, pln_stack, psn_stack, pr_truths, pln_truths, psn_truths, pr_kept, pln_kept, psn_kept, pr_namesKept, pln_namesKept, psn_namesKept, pr_areKept, pln_areKept, psn_areKept, px_c1r, px_rc, px_cI, px_cR, px_cV, px_ckz, px_ckz0, px_ckz1, px_getJ, px_putJ, cz_leti, cz_jn, pg_thrown, pp_thrown, pg_length, pp_length, pg_size, pp_size, pg_p, pp_p, pg_limit, pp_limit, pg_token, pp_token, pg_at, pp_at, pg_span, pp_span, pg_number, pp_number, pg_fault, pp_fault, pg_faultAt, pp_faultAt, pg_got, pp_got, pg_lines, pp_lines, pg_onces, pp_onces, pg_undoMany, pp_undoMany, pg_laidSet, pp_laidSet, pg_hasLaid, pp_hasLaid, pg_turnSet, pp_turnSet, pg_hasTurns, pp_hasTurns, pg_frostDay, pp_frostDay, pg_surelySet, pp_surelySet, pg_neverSet, pp_neverSet, pg_hasHooks, pp_hasHooks, pg_priceNow, pp_priceNow, pg_hasPrice, pp_hasPrice, pg_seed, pp_seed, pg_toldMany, pp_toldMany, pg_hasTold, pp_hasTold, pg_codes, pp_codes, pg_ones, pp_ones, pg_top, pp_top, pg_deep, pp_deep, pg_isWhole, pp_isWhole, px_SAne, px_SL, px_SI, px_SW, px_S1, px_S2, px_S4, px_S3, pm_draw]
  unfold sp_dc
  dsimp only
  by_cases e0 : sp_rem (sp_rnd x) 6 = 0
  · rw [if_pos e0, if_pos e0]
    by_cases es : s 0 = 0
    · rw [if_pos es, if_pos es]
    · rw [if_neg es, if_neg es]
      obtain ⟨y, -, y8, ey⟩ := sp_rem_seat (x := sp_rnd (sp_rnd x)) ok es
      simp (disch := first | assumption | omega | decide) only [qln, qsn, ql_0, ql_1, ql_2, ql_3, ql_4, ql_5, ql_6, ql_7, ql_62, qs_62, ql_63, qs_63, ql_64, qs_64, ql_117, qs_117, ql_118, qs_118, pl_h_0, ps_h_0, pl_h_1, ps_h_1, pl_h_2, ps_h_2, ps_h_4, ps_h_5, ps_h_6, pl_h_7, ps_h_7, ps_reserved_0, ps_reserved_1, ps_reserved_2, ps_reserved_3, ps_reserved_4, ps_reserved_5, ps_reserved_6, ps_reserved_7, ps_reserved_8, ps_reserved_9, ps_reserved_10, ps_reserved_11, ps_reserved_12, ps_reserved_13, ps_reserved_14, ps_reserved_15, ps_reserved_16, ps_reserved_17, ps_reserved_18, ps_reserved_19, ps_reserved_20, ps_reserved_21, ps_reserved_22, ps_reserved_23, pl_toldAt_0, ps_toldAt_0, pl_toldAt_1, ps_toldAt_1, ps_toldAt_2, ps_toldAt_3, pl_truths_0, px_c8, px_c10, px_c16, px_c20, px_c22, px_c30, px_c36, px_c38, px_c46, px_c54, px_c62, px_c65, px_c73, px_c81, px_c89, px_c97, px_c103, px_c109, px_c119, pr_tape, pln_tape, psn_tape, pr_s, pr_h, pln_h, psn_h, pr_read, pln_read, psn_read, pr_names, pln_names, psn_names, pr_reserved, pln_reserved, psn_reserved, pr_undone, pln_undone, psn_undone, pr_before, pln_before, psn_before, pr_sat, pln_sat, psn_sat, pr_toldAt, pln_toldAt, psn_toldAt, pr_stack, pln_stack, psn_stack, pr_truths, pln_truths, psn_truths, pr_kept, pln_kept, psn_kept, pr_namesKept, pln_namesKept, psn_namesKept, pr_areKept, pln_areKept, psn_areKept, px_c1r, px_rc, px_cI, px_cR, px_cV, px_ckz, px_ckz0, px_ckz1, px_getJ, px_putJ, cz_leti, cz_jn, pg_thrown, pp_thrown, pg_length, pp_length, pg_size, pp_size, pg_p, pp_p, pg_limit, pp_limit, pg_token, pp_token, pg_at, pp_at, pg_span, pp_span, pg_number, pp_number, pg_fault, pp_fault, pg_faultAt, pp_faultAt, pg_got, pp_got, pg_lines, pp_lines, pg_onces, pp_onces, pg_undoMany, pp_undoMany, pg_laidSet, pp_laidSet, pg_hasLaid, pp_hasLaid, pg_turnSet, pp_turnSet, pg_hasTurns, pp_hasTurns, pg_frostDay, pp_frostDay, pg_surelySet, pp_surelySet, pg_neverSet, pp_neverSet, pg_hasHooks, pp_hasHooks, pg_priceNow, pp_priceNow, pg_hasPrice, pp_hasPrice, pg_seed, pp_seed, pg_toldMany, pp_toldMany, pg_hasTold, pp_hasTold, pg_codes, pp_codes, pg_ones, pp_ones, pg_top, pp_top, pg_deep, pp_deep, pg_isWhole, pp_isWhole, px_SAne, px_SL, px_SI, px_SW, px_S1, px_S2, px_S4, px_S3, pm_draw hb es, ey, pm_whyLay ok]
      split
      · rw [pm_lays hb (by omega)]
        rfl
      · rfl
  · rw [if_neg e0, if_neg e0]
    by_cases e1 : sp_rem (sp_rnd x) 6 = 1
    · rw [if_pos e1, if_pos e1]
      simp (disch := first | assumption | omega | decide) only [qln, qsn, ql_0, ql_1, ql_2, ql_3, ql_4, ql_5, ql_6, ql_7, ql_62, qs_62, ql_63, qs_63, ql_64, qs_64, ql_117, qs_117, ql_118, qs_118, pl_h_0, ps_h_0, pl_h_1, ps_h_1, pl_h_2, ps_h_2, ps_h_4, ps_h_5, ps_h_6, pl_h_7, ps_h_7, ps_reserved_0, ps_reserved_1, ps_reserved_2, ps_reserved_3, ps_reserved_4, ps_reserved_5, ps_reserved_6, ps_reserved_7, ps_reserved_8, ps_reserved_9, ps_reserved_10, ps_reserved_11, ps_reserved_12, ps_reserved_13, ps_reserved_14, ps_reserved_15, ps_reserved_16, ps_reserved_17, ps_reserved_18, ps_reserved_19, ps_reserved_20, ps_reserved_21, ps_reserved_22, ps_reserved_23, pl_toldAt_0, ps_toldAt_0, pl_toldAt_1, ps_toldAt_1, ps_toldAt_2, ps_toldAt_3, pl_truths_0, px_c8, px_c10, px_c16, px_c20, px_c22, px_c30, px_c36, px_c38, px_c46, px_c54, px_c62, px_c65, px_c73, px_c81, px_c89, px_c97, px_c103, px_c109, px_c119, pr_tape, pln_tape, psn_tape, pr_s, pr_h, pln_h, psn_h, pr_read, pln_read, psn_read, pr_names, pln_names, psn_names, pr_reserved, pln_reserved, psn_reserved, pr_undone, pln_undone, psn_undone, pr_before, pln_before, psn_before, pr_sat, pln_sat, psn_sat, pr_toldAt, pln_toldAt, psn_toldAt, pr_stack, pln_stack, psn_stack, pr_truths, pln_truths, psn_truths, pr_kept, pln_kept, psn_kept, pr_namesKept, pln_namesKept, psn_namesKept, pr_areKept, pln_areKept, psn_areKept, px_c1r, px_rc, px_cI, px_cR, px_cV, px_ckz, px_ckz0, px_ckz1, px_getJ, px_putJ, cz_leti, cz_jn, pg_thrown, pp_thrown, pg_length, pp_length, pg_size, pp_size, pg_p, pp_p, pg_limit, pp_limit, pg_token, pp_token, pg_at, pp_at, pg_span, pp_span, pg_number, pp_number, pg_fault, pp_fault, pg_faultAt, pp_faultAt, pg_got, pp_got, pg_lines, pp_lines, pg_onces, pp_onces, pg_undoMany, pp_undoMany, pg_laidSet, pp_laidSet, pg_hasLaid, pp_hasLaid, pg_turnSet, pp_turnSet, pg_hasTurns, pp_hasTurns, pg_frostDay, pp_frostDay, pg_surelySet, pp_surelySet, pg_neverSet, pp_neverSet, pg_hasHooks, pp_hasHooks, pg_priceNow, pp_priceNow, pg_hasPrice, pp_hasPrice, pg_seed, pp_seed, pg_toldMany, pp_toldMany, pg_hasTold, pp_hasTold, pg_codes, pp_codes, pg_ones, pp_ones, pg_top, pp_top, pg_deep, pp_deep, pg_isWhole, pp_isWhole, px_SAne, px_SL, px_SI, px_SW, px_S1, px_S2, px_S4, px_S3, pm_whyWear]
      split
      · rw [pm_wears hb (by omega) hQ.2.2.1 hl]
        rfl
      · rfl
    · rw [if_neg e1, if_neg e1]
      by_cases e2 : sp_rem (sp_rnd x) 6 = 2
      · rw [if_pos e2, if_pos e2]
        simp (disch := first | assumption | omega | decide) only [qln, qsn, ql_0, ql_1, ql_2, ql_3, ql_4, ql_5, ql_6, ql_7, ql_62, qs_62, ql_63, qs_63, ql_64, qs_64, ql_117, qs_117, ql_118, qs_118, pl_h_0, ps_h_0, pl_h_1, ps_h_1, pl_h_2, ps_h_2, ps_h_4, ps_h_5, ps_h_6, pl_h_7, ps_h_7, ps_reserved_0, ps_reserved_1, ps_reserved_2, ps_reserved_3, ps_reserved_4, ps_reserved_5, ps_reserved_6, ps_reserved_7, ps_reserved_8, ps_reserved_9, ps_reserved_10, ps_reserved_11, ps_reserved_12, ps_reserved_13, ps_reserved_14, ps_reserved_15, ps_reserved_16, ps_reserved_17, ps_reserved_18, ps_reserved_19, ps_reserved_20, ps_reserved_21, ps_reserved_22, ps_reserved_23, pl_toldAt_0, ps_toldAt_0, pl_toldAt_1, ps_toldAt_1, ps_toldAt_2, ps_toldAt_3, pl_truths_0, px_c8, px_c10, px_c16, px_c20, px_c22, px_c30, px_c36, px_c38, px_c46, px_c54, px_c62, px_c65, px_c73, px_c81, px_c89, px_c97, px_c103, px_c109, px_c119, pr_tape, pln_tape, psn_tape, pr_s, pr_h, pln_h, psn_h, pr_read, pln_read, psn_read, pr_names, pln_names, psn_names, pr_reserved, pln_reserved, psn_reserved, pr_undone, pln_undone, psn_undone, pr_before, pln_before, psn_before, pr_sat, pln_sat, psn_sat, pr_toldAt, pln_toldAt, psn_toldAt, pr_stack, pln_stack, psn_stack, pr_truths, pln_truths, psn_truths, pr_kept, pln_kept, psn_kept, pr_namesKept, pln_namesKept, psn_namesKept, pr_areKept, pln_areKept, psn_areKept, px_c1r, px_rc, px_cI, px_cR, px_cV, px_ckz, px_ckz0, px_ckz1, px_getJ, px_putJ, cz_leti, cz_jn, pg_thrown, pp_thrown, pg_length, pp_length, pg_size, pp_size, pg_p, pp_p, pg_limit, pp_limit, pg_token, pp_token, pg_at, pp_at, pg_span, pp_span, pg_number, pp_number, pg_fault, pp_fault, pg_faultAt, pp_faultAt, pg_got, pp_got, pg_lines, pp_lines, pg_onces, pp_onces, pg_undoMany, pp_undoMany, pg_laidSet, pp_laidSet, pg_hasLaid, pp_hasLaid, pg_turnSet, pp_turnSet, pg_hasTurns, pp_hasTurns, pg_frostDay, pp_frostDay, pg_surelySet, pp_surelySet, pg_neverSet, pp_neverSet, pg_hasHooks, pp_hasHooks, pg_priceNow, pp_priceNow, pg_hasPrice, pp_hasPrice, pg_seed, pp_seed, pg_toldMany, pp_toldMany, pg_hasTold, pp_hasTold, pg_codes, pp_codes, pg_ones, pp_ones, pg_top, pp_top, pg_deep, pp_deep, pg_isWhole, pp_isWhole, px_SAne, px_SL, px_SI, px_SW, px_S1, px_S2, px_S4, px_S3, pm_isWorn, px_e0, ite_not]
        split
        · rename_i e
          rw [pm_keeps hb (by omega) hQ.2.2.1 (hQ.len7 ok hk (sp_lt10 e).1)]
          rfl
        · rfl
      · rw [if_neg e2, if_neg e2]
theorem pm_draws_28 {k0 : cz_H → cz_Z} {N : Nat} (hb : h.1.1 ≤ m) (hN : N ≤ 8) : ∀ (n f k : Nat) (x : Int32) (s : Nat → Int32), sp_full s → sp_n s 2 = N → k + n = N → n < f → fn_X5_draws_28 (some m) k0 f (Int32.ofNat k) (px_set h m (px_S (px_I M 35 x) s)) = k0 (px_set h m (px_S (px_I M 35 (sp_dcs n k (x, s)).1) (sp_dcs n k (x, s)).2)) := by
  intro n
  induction n with
  | zero =>
    intro f k x s F hs hk hf
    obtain ⟨f, rfl⟩ : ∃ g, f = g + 1 := ⟨f - 1, by omega⟩
    rw [fn_X5_draws_28]
    simp (disch := first | assumption | omega) only [qln, qsn, ql_0, ql_1, ql_2, ql_3, ql_4, ql_5, ql_6, ql_7, ql_62, qs_62, ql_63, qs_63, ql_64, qs_64, ql_117, qs_117, ql_118, qs_118, pl_h_0, ps_h_0, pl_h_1, ps_h_1, pl_h_2, ps_h_2, ps_h_4, ps_h_5, ps_h_6, pl_h_7, ps_h_7, ps_reserved_0, ps_reserved_1, ps_reserved_2, ps_reserved_3, ps_reserved_4, ps_reserved_5, ps_reserved_6, ps_reserved_7, ps_reserved_8, ps_reserved_9, ps_reserved_10, ps_reserved_11, ps_reserved_12, ps_reserved_13, ps_reserved_14, ps_reserved_15, ps_reserved_16, ps_reserved_17, ps_reserved_18, ps_reserved_19, ps_reserved_20, ps_reserved_21, ps_reserved_22, ps_reserved_23, pl_toldAt_0, ps_toldAt_0, pl_toldAt_1, ps_toldAt_1, ps_toldAt_2, ps_toldAt_3, pl_truths_0, px_c8, px_c10, px_c16, px_c20, px_c22, px_c30, px_c36, px_c38, px_c46, px_c54, px_c62, px_c65, px_c73, px_c81, px_c89, px_c97, px_c103, px_c109, px_c119, pr_tape, pln_tape, psn_tape, pr_s, pr_h, pln_h, psn_h, pr_read, pln_read, psn_read, pr_names, pln_names, psn_names, pr_reserved, pln_reserved, psn_reserved, pr_undone, pln_undone, psn_undone, pr_before, pln_before, psn_before, pr_sat, pln_sat, psn_sat, pr_toldAt, pln_toldAt, psn_toldAt, pr_stack, pln_stack, psn_stack, pr_truths, pln_truths, psn_truths, pr_kept, pln_kept, psn_kept, pr_namesKept, pln_namesKept, psn_namesKept, pr_areKept, pln_areKept, psn_areKept, px_c1r, px_rc, px_cI, px_cR, px_cV, px_ckz, px_ckz0, px_ckz1, px_getJ, px_putJ, cz_leti, cz_jn, pg_thrown, pp_thrown, pg_length, pp_length, pg_size, pp_size, pg_p, pp_p, pg_limit, pp_limit, pg_token, pp_token, pg_at, pp_at, pg_span, pp_span, pg_number, pp_number, pg_fault, pp_fault, pg_faultAt, pp_faultAt, pg_got, pp_got, pg_lines, pp_lines, pg_onces, pp_onces, pg_undoMany, pp_undoMany, pg_laidSet, pp_laidSet, pg_hasLaid, pp_hasLaid, pg_turnSet, pp_turnSet, pg_hasTurns, pp_hasTurns, pg_frostDay, pp_frostDay, pg_surelySet, pp_surelySet, pg_neverSet, pp_neverSet, pg_hasHooks, pp_hasHooks, pg_priceNow, pp_priceNow, pg_hasPrice, pp_hasPrice, pg_seed, pp_seed, pg_toldMany, pp_toldMany, pg_hasTold, pp_hasTold, pg_codes, pp_codes, pg_ones, pp_ones, pg_top, pp_top, pg_deep, pp_deep, pg_isWhole, pp_isWhole, px_SAne, px_SL, px_SI, px_SW, px_S1, px_S2, px_S4, px_S3]
    rw [F.1.1.1.2.2.1.1, hs, if_pos (by rw [px_le (by omega) (by omega)]; omega)]
    rfl
  | succ n ih =>
    intro f k x s F hs hk hf
    obtain ⟨f, rfl⟩ : ∃ g, f = g + 1 := ⟨f - 1, by omega⟩
    rw [fn_X5_draws_28]
    have dc := pm_drawsCoat (M := M) (x := x) hb F (show k < sp_n s 2 by omega)
    simp (disch := first | assumption | omega) only [qln, qsn, ql_0, ql_1, ql_2, ql_3, ql_4, ql_5, ql_6, ql_7, ql_62, qs_62, ql_63, qs_63, ql_64, qs_64, ql_117, qs_117, ql_118, qs_118, pl_h_0, ps_h_0, pl_h_1, ps_h_1, pl_h_2, ps_h_2, ps_h_4, ps_h_5, ps_h_6, pl_h_7, ps_h_7, ps_reserved_0, ps_reserved_1, ps_reserved_2, ps_reserved_3, ps_reserved_4, ps_reserved_5, ps_reserved_6, ps_reserved_7, ps_reserved_8, ps_reserved_9, ps_reserved_10, ps_reserved_11, ps_reserved_12, ps_reserved_13, ps_reserved_14, ps_reserved_15, ps_reserved_16, ps_reserved_17, ps_reserved_18, ps_reserved_19, ps_reserved_20, ps_reserved_21, ps_reserved_22, ps_reserved_23, pl_toldAt_0, ps_toldAt_0, pl_toldAt_1, ps_toldAt_1, ps_toldAt_2, ps_toldAt_3, pl_truths_0, px_c8, px_c10, px_c16, px_c20, px_c22, px_c30, px_c36, px_c38, px_c46, px_c54, px_c62, px_c65, px_c73, px_c81, px_c89, px_c97, px_c103, px_c109, px_c119, pr_tape, pln_tape, psn_tape, pr_s, pr_h, pln_h, psn_h, pr_read, pln_read, psn_read, pr_names, pln_names, psn_names, pr_reserved, pln_reserved, psn_reserved, pr_undone, pln_undone, psn_undone, pr_before, pln_before, psn_before, pr_sat, pln_sat, psn_sat, pr_toldAt, pln_toldAt, psn_toldAt, pr_stack, pln_stack, psn_stack, pr_truths, pln_truths, psn_truths, pr_kept, pln_kept, psn_kept, pr_namesKept, pln_namesKept, psn_namesKept, pr_areKept, pln_areKept, psn_areKept, px_c1r, px_rc, px_cI, px_cR, px_cV, px_ckz, px_ckz0, px_ckz1, px_getJ, px_putJ, cz_leti, cz_jn, pg_thrown, pp_thrown, pg_length, pp_length, pg_size, pp_size, pg_p, pp_p, pg_limit, pp_limit, pg_token, pp_token, pg_at, pp_at, pg_span, pp_span, pg_number, pp_number, pg_fault, pp_fault, pg_faultAt, pp_faultAt, pg_got, pp_got, pg_lines, pp_lines, pg_onces, pp_onces, pg_undoMany, pp_undoMany, pg_laidSet, pp_laidSet, pg_hasLaid, pp_hasLaid, pg_turnSet, pp_turnSet, pg_hasTurns, pp_hasTurns, pg_frostDay, pp_frostDay, pg_surelySet, pp_surelySet, pg_neverSet, pp_neverSet, pg_hasHooks, pp_hasHooks, pg_priceNow, pp_priceNow, pg_hasPrice, pp_hasPrice, pg_seed, pp_seed, pg_toldMany, pp_toldMany, pg_hasTold, pp_hasTold, pg_codes, pp_codes, pg_ones, pp_ones, pg_top, pp_top, pg_deep, pp_deep, pg_isWhole, pp_isWhole, px_SAne, px_SL, px_SI, px_SW, px_S1, px_S2, px_S4, px_S3, dc]
    rw [F.1.1.1.2.2.1.1, hs, if_neg (by rw [px_le (by omega) (by omega)]; omega)]
    obtain ⟨q1, q2⟩ := sp_dc_full (k := k) (a := (x, s)) F (show k < sp_n s 2 by omega)
    exact ih f (k + 1) _ _ q1 (by rw [q2.n (by omega)]; exact hs) (by omega) (by omega)
theorem pm_draws_7 {k0 : Int32 → cz_H → cz_Z} {N : Nat} (hb : h.1.1 ≤ m) (hN : N ≤ 400) : ∀ (n f k : Nat) (x : Int32) (s : Nat → Int32), sp_full s → k + n = N → n < f → fn_X5_draws_7 (some m) (Int32.ofNat N) k0 f (Int32.ofNat k) (px_set h m (px_S (px_I M 35 x) s)) = k0 (Int32.ofNat (sp_dr n k (x, s)).1) (px_set h m (px_S (px_I M 35 (sp_dr n k (x, s)).2.1) (sp_dr n k (x, s)).2.2)) := by
  intro n
  induction n with
  | zero =>
    intro f k x s F hk hf
    obtain ⟨f, rfl⟩ : ∃ g, f = g + 1 := ⟨f - 1, by omega⟩
    rw [fn_X5_draws_7, if_pos (by rw [px_le (by omega) (by omega)]; omega)]
    rfl
  | succ n ih =>
    intro f k x s F hk hf
    obtain ⟨f, rfl⟩ : ∃ g, f = g + 1 := ⟨f - 1, by omega⟩
    have h8 := F.1.1.1.2.2.1.2
    rw [fn_X5_draws_7, if_neg (by rw [px_le (by omega) (by omega)]; omega)]
    simp (disch := first | assumption | omega) only [qln, qsn, ql_0, ql_1, ql_2, ql_3, ql_4, ql_5, ql_6, ql_7, ql_62, qs_62, ql_63, qs_63, ql_64, qs_64, ql_117, qs_117, ql_118, qs_118, pl_h_0, ps_h_0, pl_h_1, ps_h_1, pl_h_2, ps_h_2, ps_h_4, ps_h_5, ps_h_6, pl_h_7, ps_h_7, ps_reserved_0, ps_reserved_1, ps_reserved_2, ps_reserved_3, ps_reserved_4, ps_reserved_5, ps_reserved_6, ps_reserved_7, ps_reserved_8, ps_reserved_9, ps_reserved_10, ps_reserved_11, ps_reserved_12, ps_reserved_13, ps_reserved_14, ps_reserved_15, ps_reserved_16, ps_reserved_17, ps_reserved_18, ps_reserved_19, ps_reserved_20, ps_reserved_21, ps_reserved_22, ps_reserved_23, pl_toldAt_0, ps_toldAt_0, pl_toldAt_1, ps_toldAt_1, ps_toldAt_2, ps_toldAt_3, pl_truths_0, px_c8, px_c10, px_c16, px_c20, px_c22, px_c30, px_c36, px_c38, px_c46, px_c54, px_c62, px_c65, px_c73, px_c81, px_c89, px_c97, px_c103, px_c109, px_c119, pr_tape, pln_tape, psn_tape, pr_s, pr_h, pln_h, psn_h, pr_read, pln_read, psn_read, pr_names, pln_names, psn_names, pr_reserved, pln_reserved, psn_reserved, pr_undone, pln_undone, psn_undone, pr_before, pln_before, psn_before, pr_sat, pln_sat, psn_sat, pr_toldAt, pln_toldAt, psn_toldAt, pr_stack, pln_stack, psn_stack, pr_truths, pln_truths, psn_truths, pr_kept, pln_kept, psn_kept, pr_namesKept, pln_namesKept, psn_namesKept, pr_areKept, pln_areKept, psn_areKept, px_c1r, px_rc, px_cI, px_cR, px_cV, px_ckz, px_ckz0, px_ckz1, px_getJ, px_putJ, cz_leti, cz_jn, pg_thrown, pp_thrown, pg_length, pp_length, pg_size, pp_size, pg_p, pp_p, pg_limit, pp_limit, pg_token, pp_token, pg_at, pp_at, pg_span, pp_span, pg_number, pp_number, pg_fault, pp_fault, pg_faultAt, pp_faultAt, pg_got, pp_got, pg_lines, pp_lines, pg_onces, pp_onces, pg_undoMany, pp_undoMany, pg_laidSet, pp_laidSet, pg_hasLaid, pp_hasLaid, pg_turnSet, pp_turnSet, pg_hasTurns, pp_hasTurns, pg_frostDay, pp_frostDay, pg_surelySet, pp_surelySet, pg_neverSet, pp_neverSet, pg_hasHooks, pp_hasHooks, pg_priceNow, pp_priceNow, pg_hasPrice, pp_hasPrice, pg_seed, pp_seed, pg_toldMany, pp_toldMany, pg_hasTold, pp_hasTold, pg_codes, pp_codes, pg_ones, pp_ones, pg_top, pp_top, pg_deep, pp_deep, pg_isWhole, pp_isWhole, px_SAne, px_SL, px_SI, px_SW, px_S1, px_S2, px_S4, px_S3, sp_dr]
    by_cases e : 400 ≤ s 62
    · rw [if_pos e, if_pos e]
    · rw [if_neg e, if_neg e]
      obtain ⟨q1, q2⟩ := sp_dcs_full (sp_n s 2) 0 (x, s) F (Nat.le_of_eq (Nat.zero_add _))
      have e62 := sp_dcs_62 (sp_n s 2) 0 (x, s) F (Nat.le_of_eq (Nat.zero_add _))
      have e62 : (sp_dcs (sp_n s 2) 0 (x, s)).2 62 = s 62 := e62
      rw [← e62, sp_day400 q1.2.1] at e
      have e2 := pm_draws_28 (h := h) (m := m) (M := M) (k0 := fun (h14 : cz_H) => cz_rc h14 (some m) [5] (cz_cV (fn_X5_day (some m) h14) (fun h21 => fn_X5_draws_7 (some m) (Int32.ofNat N) k0 f (Int32.ofNat (k + 1)) h21))) hb h8 (sp_n s 2) 1000 0 x s F rfl (Nat.zero_add _) (by omega)
      refine e2.trans ?_
      simp (disch := first | assumption | omega) only [qln, qsn, ql_0, ql_1, ql_2, ql_3, ql_4, ql_5, ql_6, ql_7, ql_62, qs_62, ql_63, qs_63, ql_64, qs_64, ql_117, qs_117, ql_118, qs_118, pl_h_0, ps_h_0, pl_h_1, ps_h_1, pl_h_2, ps_h_2, ps_h_4, ps_h_5, ps_h_6, pl_h_7, ps_h_7, ps_reserved_0, ps_reserved_1, ps_reserved_2, ps_reserved_3, ps_reserved_4, ps_reserved_5, ps_reserved_6, ps_reserved_7, ps_reserved_8, ps_reserved_9, ps_reserved_10, ps_reserved_11, ps_reserved_12, ps_reserved_13, ps_reserved_14, ps_reserved_15, ps_reserved_16, ps_reserved_17, ps_reserved_18, ps_reserved_19, ps_reserved_20, ps_reserved_21, ps_reserved_22, ps_reserved_23, pl_toldAt_0, ps_toldAt_0, pl_toldAt_1, ps_toldAt_1, ps_toldAt_2, ps_toldAt_3, pl_truths_0, px_c8, px_c10, px_c16, px_c20, px_c22, px_c30, px_c36, px_c38, px_c46, px_c54, px_c62, px_c65, px_c73, px_c81, px_c89, px_c97, px_c103, px_c109, px_c119, pr_tape, pln_tape, psn_tape, pr_s, pr_h, pln_h, psn_h, pr_read, pln_read, psn_read, pr_names, pln_names, psn_names, pr_reserved, pln_reserved, psn_reserved, pr_undone, pln_undone, psn_undone, pr_before, pln_before, psn_before, pr_sat, pln_sat, psn_sat, pr_toldAt, pln_toldAt, psn_toldAt, pr_stack, pln_stack, psn_stack, pr_truths, pln_truths, psn_truths, pr_kept, pln_kept, psn_kept, pr_namesKept, pln_namesKept, psn_namesKept, pr_areKept, pln_areKept, psn_areKept, px_c1r, px_rc, px_cI, px_cR, px_cV, px_ckz, px_ckz0, px_ckz1, px_getJ, px_putJ, cz_leti, cz_jn, pg_thrown, pp_thrown, pg_length, pp_length, pg_size, pp_size, pg_p, pp_p, pg_limit, pp_limit, pg_token, pp_token, pg_at, pp_at, pg_span, pp_span, pg_number, pp_number, pg_fault, pp_fault, pg_faultAt, pp_faultAt, pg_got, pp_got, pg_lines, pp_lines, pg_onces, pp_onces, pg_undoMany, pp_undoMany, pg_laidSet, pp_laidSet, pg_hasLaid, pp_hasLaid, pg_turnSet, pp_turnSet, pg_hasTurns, pp_hasTurns, pg_frostDay, pp_frostDay, pg_surelySet, pp_surelySet, pg_neverSet, pp_neverSet, pg_hasHooks, pp_hasHooks, pg_priceNow, pp_priceNow, pg_hasPrice, pp_hasPrice, pg_seed, pp_seed, pg_toldMany, pp_toldMany, pg_hasTold, pp_hasTold, pg_codes, pp_codes, pg_ones, pp_ones, pg_top, pp_top, pg_deep, pp_deep, pg_isWhole, pp_isWhole, px_SAne, px_SL, px_SI, px_SW, px_S1, px_S2, px_S4, px_S3, pm_day hb q1.1.1]
      exact ih f (k + 1) _ _ (sp_full_day q1 e) (by omega) (by omega)
theorem pm_draws {N : Nat} {x : Int32} (hb : h.1.1 ≤ m) (hN : N ≤ 400) (F : sp_full s) : fn_X5_draws (some m) (Int32.ofNat N) x (px_set h m (px_S M s)) = some (.inl (some (cz_i (Int32.ofNat (sp_dr N 0 (x, s)).1))), px_set h m (px_S (px_I M 35 (sp_dr N 0 (x, s)).2.1) (sp_dr N 0 (x, s)).2.2)) := by
  rw [fn_X5_draws]
  simp (disch := first | assumption | omega) only [qln, qsn, ql_0, ql_1, ql_2, ql_3, ql_4, ql_5, ql_6, ql_7, ql_62, qs_62, ql_63, qs_63, ql_64, qs_64, ql_117, qs_117, ql_118, qs_118, pl_h_0, ps_h_0, pl_h_1, ps_h_1, pl_h_2, ps_h_2, ps_h_4, ps_h_5, ps_h_6, pl_h_7, ps_h_7, ps_reserved_0, ps_reserved_1, ps_reserved_2, ps_reserved_3, ps_reserved_4, ps_reserved_5, ps_reserved_6, ps_reserved_7, ps_reserved_8, ps_reserved_9, ps_reserved_10, ps_reserved_11, ps_reserved_12, ps_reserved_13, ps_reserved_14, ps_reserved_15, ps_reserved_16, ps_reserved_17, ps_reserved_18, ps_reserved_19, ps_reserved_20, ps_reserved_21, ps_reserved_22, ps_reserved_23, pl_toldAt_0, ps_toldAt_0, pl_toldAt_1, ps_toldAt_1, ps_toldAt_2, ps_toldAt_3, pl_truths_0, px_c8, px_c10, px_c16, px_c20, px_c22, px_c30, px_c36, px_c38, px_c46, px_c54, px_c62, px_c65, px_c73, px_c81, px_c89, px_c97, px_c103, px_c109, px_c119, pr_tape, pln_tape, psn_tape, pr_s, pr_h, pln_h, psn_h, pr_read, pln_read, psn_read, pr_names, pln_names, psn_names, pr_reserved, pln_reserved, psn_reserved, pr_undone, pln_undone, psn_undone, pr_before, pln_before, psn_before, pr_sat, pln_sat, psn_sat, pr_toldAt, pln_toldAt, psn_toldAt, pr_stack, pln_stack, psn_stack, pr_truths, pln_truths, psn_truths, pr_kept, pln_kept, psn_kept, pr_namesKept, pln_namesKept, psn_namesKept, pr_areKept, pln_areKept, psn_areKept, px_c1r, px_rc, px_cI, px_cR, px_cV, px_ckz, px_ckz0, px_ckz1, px_getJ, px_putJ, cz_leti, cz_jn, pg_thrown, pp_thrown, pg_length, pp_length, pg_size, pp_size, pg_p, pp_p, pg_limit, pp_limit, pg_token, pp_token, pg_at, pp_at, pg_span, pp_span, pg_number, pp_number, pg_fault, pp_fault, pg_faultAt, pp_faultAt, pg_got, pp_got, pg_lines, pp_lines, pg_onces, pp_onces, pg_undoMany, pp_undoMany, pg_laidSet, pp_laidSet, pg_hasLaid, pp_hasLaid, pg_turnSet, pp_turnSet, pg_hasTurns, pp_hasTurns, pg_frostDay, pp_frostDay, pg_surelySet, pp_surelySet, pg_neverSet, pp_neverSet, pg_hasHooks, pp_hasHooks, pg_priceNow, pp_priceNow, pg_hasPrice, pp_hasPrice, pg_seed, pp_seed, pg_toldMany, pp_toldMany, pg_hasTold, pp_hasTold, pg_codes, pp_codes, pg_ones, pp_ones, pg_top, pp_top, pg_deep, pp_deep, pg_isWhole, pp_isWhole, px_SAne, px_SL, px_SI, px_SW, px_S1, px_S2, px_S4, px_S3]
  exact pm_draws_7 hb hN N 1000 0 x s F (Nat.zero_add _) (by omega)
end SPF
