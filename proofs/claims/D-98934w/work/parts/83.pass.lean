/-! THE PLAIN LAW, 23: a Reign's day -/
set_option maxRecDepth 100000
section RXK
variable {h : cz_H} {r c : Nat} {R : rx_R} {s : Nat → Int32} {nm : Nat → Int64}
theorem rm_pass_57 {k0 : cz_H → cz_Z} {N : Nat} (hb : h.1.1 ≤ r) : ∀ (n f k : Nat) (R : rx_R) (s : Nat → Int32), sp_inv s → R.1 = some c → pc_Cap (rx_no h r) c s nm → rx_okP (fun j => if j < k then 1 else 0) R s → sp_n s 2 = N → k + n = N → n < f →
    ∃ R2 : rx_R, fn_X3_pass_57 (some r) k0 f (Int32.ofNat k) (rx_set h r R) = k0 (rx_set h r R2) ∧ (R2.1 = some c ∧ R2.2.1 13 = R.2.1 13) ∧ rx_okP (fun j => if j < N then 1 else 0) R2 (sp_lies n k s) := by
  intro n
  induction n with
  | zero =>
    intro f k R s H hr hC hR hs hk hf
    obtain ⟨f, rfl⟩ : ∃ g, f = g + 1 := ⟨f - 1, by omega⟩
    have h8 := H.1.1.2.2.1.2
    have ek : k = N := by omega
    refine ⟨R, ?_, ⟨hr, rfl⟩, by rw [ek] at hR; exact hR⟩
    rw [fn_X3_pass_57]
    simp (disch := first | assumption | omega) only [rx_rc, rg_c, rg_day, rg_bares, rg_firstBare, rg_eaten, rg_queued, rg_seed, rp_c, rp_day, rp_bares, rp_firstBare, rp_eaten, rp_queued, rp_seed, rr_at, rl_at, rs_at, ra_at, rr_cloth, rl_cloth, rs_cloth, ra_cloth, rr_user, rl_user, rs_user, ra_user, rr_since, rl_since, rs_since, ra_since, rr_queue, rl_queue, rs_queue, ra_queue, rr_harm, rl_harm, rs_harm, ra_harm, rr_ruled, rl_ruled, rs_ruled, ra_ruled, px_c1r, px_cI, px_cR, px_cV, px_ckz, px_ckz0, px_ckz1, cz_leti, cz_jn, rm_coats hr (hC.mono rx_no_in)]
    rw [if_pos (by rw [px_le (by omega) (by omega)]; omega)]
  | succ n ih =>
    intro f k R s H hr hC hR hs hk hf
    obtain ⟨f, rfl⟩ : ∃ g, f = g + 1 := ⟨f - 1, by omega⟩
    have h8 := H.1.1.2.2.1.2
    obtain ⟨Q, hQ⟩ := H.1.2
    have hkn : k < sp_n s 2 := by omega
    have c1 := (hR.2.2.2.2.2.1 k hkn).1
    have pw : ∀ (p : Nat → Int32) (R : rx_R) (s : Nat → Int32), (∀ j, j < sp_n s 2 → 10 ≤ s (65 + j) → s (65 + j) ≤ 17 → p j = if j < k + 1 then 1 else 0) → rx_okP p R s → rx_okP (fun j => if j < k + 1 then 1 else 0) R s := by
      intro p R s hp ⟨a1, a2, a3, a4, a5, a6, a7, a8⟩
      refine ⟨a1, a2, a3, a4, a5, fun j hj => ?_, a7, a8⟩
      obtain ⟨b1, b2, b3, b4⟩ := a6 j hj
      exact ⟨b1, b2, b3, fun q1 q2 => by dsimp only; rw [← hp j hj q1 q2]; exact b4 q1 q2⟩
    have e : sp_lies (n + 1) k s = sp_lies n (k + 1) (if 10 ≤ s (65 + k) ∧ s (65 + k) ≤ 17 then sp_lying s k else s) := rfl
    rw [e]
    rw [fn_X3_pass_57]
    simp (disch := first | assumption | omega) only [rx_rc, rg_c, rg_day, rg_bares, rg_firstBare, rg_eaten, rg_queued, rg_seed, rp_c, rp_day, rp_bares, rp_firstBare, rp_eaten, rp_queued, rp_seed, rr_at, rl_at, rs_at, ra_at, rr_cloth, rl_cloth, rs_cloth, ra_cloth, rr_user, rl_user, rs_user, ra_user, rr_since, rl_since, rs_since, ra_since, rr_queue, rl_queue, rs_queue, ra_queue, rr_harm, rl_harm, rs_harm, ra_harm, rr_ruled, rl_ruled, rs_ruled, ra_ruled, px_c1r, px_cI, px_cR, px_cV, px_ckz, px_ckz0, px_ckz1, cz_leti, cz_jn, rm_coats hr (hC.mono rx_no_in), c1, pc_isIn, px_e0, ite_not]
    rw [if_neg (by rw [px_le (by omega) (by omega)]; omega)]
    by_cases hi : 10 ≤ s (65 + k) ∧ s (65 + k) ≤ 19
    · obtain ⟨b17, l, hl, hlH⟩ := sp_seat (H.2.2.2 k hkn) hi.1 hi.2
      obtain ⟨R2, r1, r2, r3⟩ := rm_lies hb H.1.1 hQ hr hC hR hkn hi.1 b17 (if_neg (by omega)) hl H.2.2.1.1 hlH H.2.2.1.2
      rw [if_pos hi, if_pos ⟨hi.1, b17⟩, r1, px_cV]
      obtain ⟨R3, i1, i2, i3⟩ := ih f (k + 1) R2 _ (sp_lying_inv H hkn hi.1 b17) (r2.1.trans hr) (hC.same H.1.1 sp_lying_same) (pw _ _ _ (fun j _ _ _ => by
        by_cases ej : j = k
        · rw [if_pos ej, if_pos (by omega)]
        · rw [if_neg ej]
          by_cases e1 : j < k
          · rw [if_pos e1, if_pos (by omega)]
          · rw [if_neg e1, if_neg (by omega)]) r3) (by rw [sp_lying_same.n (by omega)]; exact hs) (by omega) (by omega)
      exact ⟨R3, i1, ⟨i2.1, i2.2.trans r2.2⟩, i3⟩
    · have hi2 : ¬ (10 ≤ s (65 + k) ∧ s (65 + k) ≤ 17) := fun q => hi ⟨q.1, Int32.le_trans q.2 (by decide)⟩
      rw [if_neg hi, if_neg hi2]
      exact ih f (k + 1) R s H hr hC (pw _ _ _ (fun j _ q1 q2 => by
        have : j ≠ k := fun e => by rw [e] at q1 q2; exact hi2 ⟨q1, q2⟩
        by_cases e1 : j < k
        · rw [if_pos e1, if_pos (by omega)]
        · rw [if_neg e1, if_neg (by omega)]) hR) hs (by omega) (by omega)
end RXK
