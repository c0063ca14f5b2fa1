/-! THE PLAIN LAW, 25: days of a Reign -/
set_option maxRecDepth 100000
/-- the day is one of 0..400 -/
def sp_dayIn (s : Nat → Int32) : Prop := ∃ d, s 62 = Int32.ofNat d ∧ d ≤ 400
theorem sp_day_62 {s : Nat → Int32} (H : sp_inv s) : sp_day s 62 = s 62 + 1 := by
  have h6 := H.1.1.2.1.2
  have h8 := H.1.1.2.2.1.2
  have hr := sp_ruler_lt H.1.1
  have e1 : sp_noon s 62 = s 62 := by
    unfold sp_noon
    split
    · split
      · rw [px_une (by omega), px_une (by omega)]
      · rw [px_une (by omega)]
    · rw [px_une (by omega)]
  have e2 : sp_harms (sp_n s 1) 0 (sp_noon s) 62 = s 62 := (sp_harms_num _ 0 (by omega) 62 (by omega)).trans e1
  have e3 : sp_day3 s 62 = s 62 := by
    have key := sp_fold_ind (f := fun k s => if 10 ≤ s (65 + k) ∧ s (65 + k) ≤ 17 then sp_lying s k else s) (fun t => t 62 = s 62 ∧ ∃ Q : Nat, (t 117).toNatClampNeg = (t 117).toNatClampNeg) (sp_n s 2) 0 (sp_harms (sp_n s 1) 0 (sp_noon s)) ⟨e2, 0, rfl⟩ (by
      intro j b h1 h2 ⟨hb, _⟩
      refine ⟨?_, 0, rfl⟩
      split
      · unfold sp_lying sp_lying0 sp_keeps
        split
        · rw [px_une (by omega), px_une (by omega), px_une (by omega)]; exact hb
        · split
          · rw [px_une (by omega), px_une (by omega), px_une (by omega), px_une (by omega), px_une (by omega)]; exact hb
          · rw [px_une (by omega), px_une (by omega)]; exact hb
      · exact hb)
    exact key.1
  unfold sp_day
  rw [px_ueq, e3]
section RXM
variable {h : cz_H} {r c : Nat} {R : rx_R} {s : Nat → Int32} {nm : Nat → Int64}
theorem rm_pass0 (hR : rx_ok R s) (hd : s 62 = 400) : fn_X3_pass (some r) (rx_set h r R) = some (.inl (some (cz_i 0)), rx_set h r R) := by
  rw [fn_X3_pass, fn_X3_isOver]
  simp (disch := first | assumption | omega) only [rx_rc, rg_c, rg_day, rg_bares, rg_firstBare, rg_eaten, rg_queued, rg_seed, rp_c, rp_day, rp_bares, rp_firstBare, rp_eaten, rp_queued, rp_seed, rr_at, rl_at, rs_at, ra_at, rr_cloth, rl_cloth, rs_cloth, ra_cloth, rr_user, rl_user, rs_user, ra_user, rr_since, rl_since, rs_since, ra_since, rr_queue, rl_queue, rs_queue, ra_queue, rr_harm, rl_harm, rs_harm, ra_harm, rr_ruled, rl_ruled, rs_ruled, ra_ruled, px_c1r, px_cI, px_cR, px_cV, px_ckz, px_ckz0, px_ckz1, cz_leti, cz_jn, hR.1]
  rw [if_pos hd, px_cI, if_neg (by decide)]
theorem rm_passAll_2 {k0 : Int32 → cz_H → cz_Z} {N : Nat} (hb : h.1.1 ≤ r) (hN : N ≤ 400) : ∀ (n f k : Nat) (R : rx_R) (s : Nat → Int32), sp_inv s → sp_dayIn s → R.1 = some c → pc_Cap (rx_no h r) c s nm → rx_ok R s → k + n = N → n < f → ∃ R2 : rx_R, fn_X3_passAll_2 (some r) (Int32.ofNat N) k0 f (Int32.ofNat k) (rx_set h r R) = k0 (Int32.ofNat (sp_goes n k s).1) (rx_set h r R2) ∧ R2.1 = some c ∧ rx_ok R2 (sp_goes n k s).2 := by
  intro n
  induction n with
  | zero =>
    intro f k R s H hd hr hC hR hk hf
    obtain ⟨f, rfl⟩ : ∃ g, f = g + 1 := ⟨f - 1, by omega⟩
    refine ⟨R, ?_, hr, hR⟩
    rw [fn_X3_passAll_2, if_pos (by rw [px_le (by omega) (by omega)]; omega)]
    rfl
  | succ n ih =>
    intro f k R s H hd hr hC hR hk hf
    obtain ⟨f, rfl⟩ : ∃ g, f = g + 1 := ⟨f - 1, by omega⟩
    obtain ⟨d, e, hd4⟩ := hd
    have hle : (400 ≤ s 62) = (d = 400) := by
      rw [e, show (400 : Int32) = Int32.ofNat 400 from rfl, px_le (by omega) (by omega)]
      exact propext ⟨fun q => by omega, fun q => by omega⟩
    rw [fn_X3_passAll_2, if_neg (by rw [px_le (by omega) (by omega)]; omega), rx_rc, sp_goes]
    by_cases ed : d = 400
    · have h62 : s 62 = 400 := by rw [e, ed]; rfl
      refine ⟨R, ?_, hr, ?_⟩
      · rw [rm_pass0 hR h62, px_cI, if_pos rfl, if_pos (by rw [hle]; exact ed)]
      · rw [if_pos (by rw [hle]; exact ed)]; exact hR
    · have h62 : s 62 ≠ 400 := by rw [e]; exact px_small (q := 400) (by omega) (by decide) ed
      obtain ⟨R1, r1, r2, r3⟩ := rm_pass hb H hr hC hR h62
      obtain ⟨R2, t1, t2, t3⟩ := ih f (k + 1) R1 (sp_day s) (sp_day_inv H) ⟨d + 1, by rw [sp_day_62 H, e, px_c1r], by omega⟩ r2.1 (hC.same H.1.1 (sp_day_oq H.1).2) r3 (by omega) (by omega)
      refine ⟨R2, ?_, t2, ?_⟩
      · rw [r1, px_cI, if_neg (by decide), if_neg (by rw [hle]; exact ed)]
        simp only [cz_leti, px_c1r]
        exact t1
      · rw [if_neg (by rw [hle]; exact ed)]; exact t3
end RXM
