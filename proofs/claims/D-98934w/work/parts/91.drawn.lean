/-! THE PLAIN LAW, 31: draws of a Reign; its seats -/
set_option maxRecDepth 100000
theorem sp_lays_same {s : Nat → Int32} {k : Nat} {v : Int32} : sp_same s (sp_lays s k v) := fun q hq => by unfold sp_lays; rw [px_une (by omega), px_une (by omega)]
section RXQ
variable {h : cz_H} {r c : Nat} {R R2 : rx_R} {s t : Nat → Int32} {nm : Nat → Int64}
theorem rx_st.seed {v : Int32} (H : rx_st h r R c s nm) : rx_st h r (rx_I R 13 v) c s nm := by
  obtain ⟨F, hr, hC, a1, a2, a3, a4, a5, a6⟩ := H
  refine ⟨F, rx_I1.trans hr, hC, ?_⟩
  unfold rx_ok
  rw [rx_In (by decide), rx_In (by decide), rx_In (by decide), rx_In (by decide), rx_In (by decide), rx_I3]
  exact ⟨a1, a2, a3, a4, a5, a6⟩
theorem rm_draw {n : Int32} (hb : h.1.1 ≤ r) (hn : n ≠ 0) : fn_X3_draw (some r) n (rx_set h r R) = some (.inl (some (cz_i (sp_rem (sp_rnd (R.2.1 13)) n))), rx_set h r (rx_I R 13 (sp_rnd (R.2.1 13)))) := by
  rw [fn_X3_draw]
  simp (disch := first | assumption | omega) only [rx_rc, rg_c, rg_day, rg_bares, rg_firstBare, rg_eaten, rg_queued, rg_seed, rp_c, rp_day, rp_bares, rp_firstBare, rp_eaten, rp_queued, rp_seed, rr_at, rl_at, rs_at, ra_at, rr_cloth, rl_cloth, rs_cloth, ra_cloth, rr_user, rl_user, rs_user, ra_user, rr_since, rl_since, rs_since, ra_since, rr_queue, rl_queue, rs_queue, ra_queue, rr_harm, rl_harm, rs_harm, ra_harm, rr_ruled, rl_ruled, rs_ruled, ra_ruled, px_c1r, px_cI, px_cR, px_cV, px_ckz, px_ckz0, px_ckz1, cz_leti, cz_jn, rx_Ie]
  rw [if_neg hn, sp_rnd_eq, sp_rem_eq]
theorem rm_coatM {k : Nat} (z : Int32 → cz_H → cz_Z) (H : rx_st h r R c s nm) (hk : k < sp_n s 2) : cz_getR (rx_set h r R) (some r) [(3, 0)] (fun r10 => cz_getR (rx_set h r R) r10 [(1, 8)] (fun r11 => cz_rc (rx_set h r R) r11 [2] (cz_cR (fn_J2_get r11 (Int32.ofNat k) (rx_set h r R)) (fun r19 h18 => cz_cast h18 r19 [11] (cz_getI h18 r19 [(11, 1)] (fun x20 => z x20 h18)))))) = z (s (22 + k)) (rx_set h r R) := by
  rw [rg_c, H.2.1]
  exact pc_coatM H.1.1.1.1 (H.2.2.1.mono rx_no_in) hk
theorem rm_acts {k : Nat} (hb : h.1.1 ≤ r) (H : rx_st h r R c s nm) (hk : k < sp_n s 2) : ∃ R2 : rx_R, fn_X3_acts (some r) (Int32.ofNat k) (rx_set h r R) = some (.inl none, rx_set h r R2) ∧ R2.2.1 13 = (sp_dc k (R.2.1 13, s)).1 ∧ rx_st h r R2 c (sp_dc k (R.2.1 13, s)).2 nm := by
  have h8 := H.1.1.1.1.2.2.1.2
  have h6 := H.1.1.1.1.2.1.2
  have h0 := H.1.1.1.1.1.2
  rw [fn_X3_acts, rx_rc, rm_draw hb (by decide), px_cI]
  simp only [cz_jn]
  generalize hx : sp_rnd (R.2.1 13) = x
  have H1 : rx_st h r (rx_I R 13 x) c s nm := H.seed
  unfold sp_dc
  dsimp only
  rw [hx]
  by_cases e0 : sp_rem x 6 = 0
  · have e1 : ¬ sp_rem x 6 = 1 := by rw [e0]; decide
    have e2 : ¬ sp_rem x 6 = 2 := by rw [e0]; decide
    simp only [if_pos e0, if_neg e1, if_neg e2]
    rw [rx_rc, rm_seats H1.is.2.2.1 H1.is.2.2.2.1, px_cI]
    by_cases es : s 0 = 0
    · have ez : Int32.ofNat (sp_n s 0) ≤ 0 := by
        rw [← H.1.1.1.1.1.1, es]
        decide
      rw [if_pos ez, if_pos es]
      refine ⟨rx_I R 13 x, ?_, rx_Ie, H1⟩
      exact rm_coatM _ H1 hk
    · have hp : 0 < sp_n s 0 := by
        rcases Nat.eq_zero_or_pos (sp_n s 0) with e | e
        · exact absurd (by rw [H.1.1.1.1.1.1, e]; rfl) es
        · exact e
      have ez : ¬ Int32.ofNat (sp_n s 0) ≤ 0 := by
        rw [show (0 : Int32) = Int32.ofNat 0 from rfl, px_le (by omega) (by omega)]
        omega
      have hn : Int32.ofNat (sp_n s 0) ≠ 0 := by rw [← H.1.1.1.1.1.1]; exact es
      obtain ⟨y, y0, y8, ey⟩ := sp_rem_seat (x := sp_rnd x) H.1.1.1.1 es
      rw [if_neg ez, if_neg es, rx_rc, rm_seats H1.is.2.2.1 H1.is.2.2.2.1, px_cI, rx_rc, rm_draw hb hn, px_cI, rx_Ie, ← H.1.1.1.1.1.1, ey]
      generalize sp_rnd x = x2
      have H2 : rx_st h r (rx_I (rx_I R 13 x) 13 x2) c s nm := H1.seed
      rw [rx_rc, rm_whyLay H2.is hk, px_cI]
      by_cases ew : sp_whyLay s k (Int32.ofNat y) = 0
      · rw [if_pos ew, if_pos ew]
        obtain ⟨R3, r1, r2, r3⟩ := rm_laySt hb H2 hk y8 (sp_whyLay0 ew)
        rw [rx_rc, r1, px_cV]
        refine ⟨R3, ?_, r2.trans rx_Ie, r3⟩
        exact rm_coatM (k := k) _ r3 (by rw [sp_lays_same.n (by omega)]; exact hk)
      · rw [if_neg ew, if_neg ew]
        refine ⟨_, ?_, rx_Ie, H2⟩
        exact rm_coatM _ H2 hk
  · rw [if_neg e0, if_neg e0]
    have go : ∀ z : Int32 → cz_H → cz_Z, _ := fun z => rm_coatM z H1 hk
    by_cases e1 : sp_rem x 6 = 1
    · have e2 : ¬ sp_rem x 6 = 2 := by rw [e1]; decide
      rw [if_pos e1]
      obtain ⟨o, eo, ho⟩ := H.1.2.2.2 k hk
      by_cases ew : sp_whyWear s (s (22 + k)) k = 0
      · rw [if_pos ew]
        obtain ⟨R3, r1, r2, r3⟩ := rm_wearSt (y := o) hb H1 hk (sp_whyWear0 ew).2 (by omega)
        rw [eo] at ew ⊢
        refine ⟨R3, (go _).trans ?_, r2.trans rx_Ie, r3⟩
        rw [if_pos e1, rx_rc, eo, rm_whyWear H1.is hk, px_cI, if_pos ew, rx_rc, r1, px_cV, if_neg e2]
      · rw [if_neg ew]
        refine ⟨_, (go _).trans ?_, rx_Ie, H1⟩
        rw [if_pos e1, rx_rc, rm_whyWear H1.is hk, px_cI, if_neg ew, if_neg e2]
    · rw [if_neg e1]
      by_cases e2 : sp_rem x 6 = 2
      · rw [if_pos e2]
        by_cases ew : s (65 + k) < 10
        · rw [if_pos ew]
          obtain ⟨R3, r1, r2, r3⟩ := rm_keepSt hb H1 hk ew
          refine ⟨R3, (go _).trans ?_, r2.trans rx_Ie, r3⟩
          rw [if_neg e1, if_pos e2, rx_rc, rm_whyKeep H1.is hk, px_cI, if_pos ew, if_pos rfl, rx_rc, r1, px_cV]
        · rw [if_neg ew]
          refine ⟨_, (go _).trans ?_, rx_Ie, H1⟩
          rw [if_neg e1, if_pos e2, rx_rc, rm_whyKeep H1.is hk, px_cI, if_neg ew, if_neg (by decide)]
      · rw [if_neg e2]
        refine ⟨_, (go _).trans ?_, rx_Ie, H1⟩
        rw [if_neg e1, if_neg e2]
theorem rm_drawn_22 {k0 : cz_H → cz_Z} {N : Nat} (hb : h.1.1 ≤ r) (hN : N ≤ 8) : ∀ (n f k : Nat) (R : rx_R) (s : Nat → Int32), rx_st h r R c s nm → sp_n s 2 = N → k + n = N → n < f → ∃ R2 : rx_R, fn_X3_drawn_22 (some r) k0 f (Int32.ofNat k) (rx_set h r R) = k0 (rx_set h r R2) ∧ R2.2.1 13 = (sp_dcs n k (R.2.1 13, s)).1 ∧ rx_st h r R2 c (sp_dcs n k (R.2.1 13, s)).2 nm := by
  intro n
  induction n with
  | zero =>
    intro f k R s H hs hk hf
    obtain ⟨f, rfl⟩ : ∃ g, f = g + 1 := ⟨f - 1, by omega⟩
    refine ⟨R, ?_, rfl, H⟩
    rw [fn_X3_drawn_22, rx_rc, rm_coats H.is.2.2.1 H.is.2.2.2.1, px_cI, if_pos (by rw [px_le (by omega) (by omega)]; omega)]
  | succ n ih =>
    intro f k R s H hs hk hf
    obtain ⟨f, rfl⟩ : ∃ g, f = g + 1 := ⟨f - 1, by omega⟩
    obtain ⟨R1, r1, r2, r3⟩ := rm_acts hb H (show k < sp_n s 2 by omega)
    obtain ⟨q1, q2⟩ := sp_dc_full (k := k) (a := (R.2.1 13, s)) H.1 (show k < sp_n s 2 by omega)
    obtain ⟨R2, t1, t2, t3⟩ := ih f (k + 1) R1 _ r3 (by rw [q2.n (by omega)]; exact hs) (by omega) (by omega)
    rw [r2] at t2 t3
    refine ⟨R2, ?_, t2, t3⟩
    rw [fn_X3_drawn_22, rx_rc, rm_coats H.is.2.2.1 H.is.2.2.2.1, px_cI, if_neg (by rw [px_le (by omega) (by omega)]; omega), rx_rc, r1, px_cV]
    simp only [cz_leti, px_c1r]
    exact t1
theorem rm_isOver (hR : rx_ok R s) : fn_X3_isOver (some r) (rx_set h r R) = some (.inl (some (cz_i (if s 62 = 400 then 1 else 0))), rx_set h r R) := by
  rw [fn_X3_isOver]
  simp only [rx_rc, rg_c, rg_day, rg_bares, rg_firstBare, rg_eaten, rg_queued, rg_seed, rp_c, rp_day, rp_bares, rp_firstBare, rp_eaten, rp_queued, rp_seed, rr_at, rl_at, rs_at, ra_at, rr_cloth, rl_cloth, rs_cloth, ra_cloth, rr_user, rl_user, rs_user, ra_user, rr_since, rl_since, rs_since, ra_since, rr_queue, rl_queue, rs_queue, ra_queue, rr_harm, rl_harm, rs_harm, ra_harm, rr_ruled, rl_ruled, rs_ruled, ra_ruled, px_c1r, px_cI, px_cR, px_cV, px_ckz, px_ckz0, px_ckz1, cz_leti, cz_jn, hR.1]
  split <;> rfl
theorem rm_drawn_7 {k0 : Int32 → cz_H → cz_Z} {N : Nat} (hb : h.1.1 ≤ r) (hN : N ≤ 400) : ∀ (n f k : Nat) (R : rx_R) (s : Nat → Int32), rx_st h r R c s nm → k + n = N → n < f → ∃ R2 : rx_R, fn_X3_drawn_7 (some r) (Int32.ofNat N) k0 f (Int32.ofNat k) (rx_set h r R) = k0 (Int32.ofNat (sp_dr n k (R.2.1 13, s)).1) (rx_set h r R2) ∧ rx_st h r R2 c (sp_dr n k (R.2.1 13, s)).2.2 nm := by
  intro n
  induction n with
  | zero =>
    intro f k R s H hk hf
    obtain ⟨f, rfl⟩ : ∃ g, f = g + 1 := ⟨f - 1, by omega⟩
    refine ⟨R, ?_, H⟩
    rw [fn_X3_drawn_7, if_pos (by rw [px_le (by omega) (by omega)]; omega)]
    rfl
  | succ n ih =>
    intro f k R s H hk hf
    obtain ⟨f, rfl⟩ : ∃ g, f = g + 1 := ⟨f - 1, by omega⟩
    have h8 := H.1.1.1.1.2.2.1.2
    rw [fn_X3_drawn_7, if_neg (by rw [px_le (by omega) (by omega)]; omega), rx_rc, rm_isOver H.2.2.2, px_cI, sp_dr]
    by_cases e : s 62 = 400
    · refine ⟨R, ?_, ?_⟩
      · rw [if_pos e, if_neg (by decide), if_pos (by rw [sp_day400 H.1.2.1]; exact e)]
      · rw [if_pos (by rw [sp_day400 H.1.2.1]; exact e)]; exact H
    · obtain ⟨R1, r1, r2, r3⟩ := rm_drawn_22 (k0 := fun (h26 : cz_H) => cz_rc h26 (some r) [3] (cz_cI (fn_X3_pass (some r) h26) (fun x34 h33 => cz_leti (Int32.ofNat k + 1) (fun x35 => fn_X3_drawn_7 (some r) (Int32.ofNat N) k0 f x35 h33)))) hb h8 (sp_n s 2) 1000 0 R s H rfl (Nat.zero_add _) (by omega)
      have e62 := sp_dcs_62 (sp_n s 2) 0 (R.2.1 13, s) H.1 (Nat.le_of_eq (Nat.zero_add _))
      have ed : (sp_dcs (sp_n s 2) 0 (R.2.1 13, s)).2 62 ≠ 400 := by rw [e62]; exact e
      obtain ⟨R2, t1, t2, t3⟩ := rm_passSt hb r3 ed
      obtain ⟨R3, u1, u2⟩ := ih f (k + 1) R2 _ t3 (by omega) (by omega)
      rw [t2, r2] at u1 u2
      refine ⟨R3, ?_, ?_⟩
      · rw [if_neg e, if_pos rfl, if_neg (by rw [sp_day400 H.1.2.1]; exact e)]
        refine r1.trans ?_
        rw [rx_rc, t1, px_cI]
        simp only [cz_leti, px_c1r]
        exact u1
      · rw [if_neg (by rw [sp_day400 H.1.2.1]; exact e)]; exact u2
theorem rm_drawn {N : Nat} {x : Int32} (hb : h.1.1 ≤ r) (hN : N ≤ 400) (H : rx_st h r R c s nm) : ∃ R2 : rx_R, fn_X3_drawn (some r) (Int32.ofNat N) x (rx_set h r R) = some (.inl (some (cz_i (Int32.ofNat (sp_dr N 0 (x, s)).1))), rx_set h r R2) ∧ rx_st h r R2 c (sp_dr N 0 (x, s)).2.2 nm := by
  obtain ⟨R2, a, b⟩ := rm_drawn_7 (k0 := fun (e36 : Int32) (h37 : cz_H) => some (.inl (some (cz_i e36)), h37)) hb hN N 1000 0 (rx_I R 13 x) s H.seed (Nat.zero_add _) (by omega)
  rw [rx_Ie] at a b
  exact ⟨R2, by rw [fn_X3_drawn, rp_seed hb]; exact a, b⟩
end RXQ
