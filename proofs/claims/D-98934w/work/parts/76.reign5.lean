/-! THE PLAIN LAW, 16: a Reign's wear, noon -/
set_option maxRecDepth 100000
/-- R2 is R in all but 'at' of k and the queue -/
theorem rx_ok_at {R R2 : rx_R} {s t : Nat → Int32} {k : Nat} (h8 : sp_n s 2 ≤ 8) (h6 : sp_n s 1 ≤ 6) (hR : rx_ok R s) (i1 : R2.2.1 1 = R.2.1 1) (i2 : R2.2.1 2 = R.2.1 2) (i3 : R2.2.1 3 = R.2.1 3) (i4 : R2.2.1 4 = R.2.1 4) (hk : k < sp_n s 2)
    (g : ∀ q, q ≠ 65 + k → (q < 109 ∨ 118 ≤ q) → t q = s q) (i5 : R2.2.1 5 = t 117) (a6 : ∀ j, R2.2.2 6 j = if j = k then t (65 + k) else R.2.2 6 j) (a7 : R2.2.2 7 = R.2.2 7) (a8 : R2.2.2 8 = R.2.2 8) (a9 : R2.2.2 9 = R.2.2 9) (a10 : ∀ j, j < sp_n t 117 → R2.2.2 10 j = t (109 + j)) (a11 : R2.2.2 11 = R.2.2 11) (a12 : R2.2.2 12 = R.2.2 12)
    (h30 : s (65 + k) ≠ 30) (t30 : t (65 + k) ≠ 30) (tw : t (65 + k) < 10 ∨ 17 < t (65 + k)) : rx_ok R2 t := by
  obtain ⟨b1, b2, b3, b4, b5, b6, b7, b8⟩ := hR
  have e2 : sp_n t 2 = sp_n s 2 := by unfold sp_n; rw [g 2 (by omega) (by omega)]
  have e1 : sp_n t 1 = sp_n s 1 := by unfold sp_n; rw [g 1 (by omega) (by omega)]
  unfold rx_ok
  rw [e2, e1]
  refine ⟨by rw [i1, b1, g 62 (by omega) (by omega)], by rw [i2, b2, g 63 (by omega) (by omega)], by rw [i3, b3, g 64 (by omega) (by omega)], ?_, i5, ?_, a10, ?_⟩
  · rw [i4, b4]
    refine (sp_coatsAt_congr e2 fun j hj => ?_).symm
    by_cases e : j = k
    · subst e
      exact ⟨fun q => absurd q t30, fun q => absurd q h30⟩
    · rw [g _ (by omega) (by omega)]
  · intro j hj
    obtain ⟨c1, c2, c3, c4⟩ := b6 j hj
    rw [a6 j, a7, a8, a9, g (81 + j) (by omega) (by omega), g (73 + j) (by omega) (by omega), g 62 (by omega) (by omega), g (89 + j) (by omega) (by omega)]
    by_cases e : j = k
    · subst e
      rw [if_pos rfl]
      refine ⟨rfl, c2, c3, fun q1 q2 => ?_⟩
      rcases tw with q | q
      · exact absurd q (Int32.not_lt.mpr q1)
      · exact absurd q (Int32.not_lt.mpr q2)
    · rw [if_neg e, g (65 + j) (by omega) (by omega)]
      exact ⟨c1, c2, c3, c4⟩
  · intro j hj
    rw [a11, a12, g (97 + j) (by omega) (by omega), g (103 + j) (by omega) (by omega)]
    exact b8 j hj
section RXG
variable {h : cz_H} {r c : Nat} {R : rx_R} {s : Nat → Int32} {nm : Nat → Int64}
theorem rm_wear {k y : Nat} {Q : List Nat} (hb : h.1.1 ≤ r) (ok : sp_ok s) (hQ : sp_Q s Q) (hR : rx_ok R s) (hk : k < sp_n s 2) (h30 : s (65 + k) ≠ 30) (hy : y < 6) : ∃ R2 : rx_R, fn_X3_wear (some r) (Int32.ofNat k) (Int32.ofNat y) (rx_set h r R) = some (.inl none, rx_set h r R2) ∧ (R2.1 = R.1 ∧ R2.2.1 13 = R.2.1 13) ∧ rx_ok R2 (sp_wears s (Int32.ofNat y) k) := by
  have h8 := ok.2.2.1.2
  have h6 := ok.2.1.2
  have hl := hQ.len ok
  have hq5 : R.2.1 5 = Int32.ofNat Q.length := by rw [hR.2.2.2.2.1, hQ.2.2.1]
  have hn117 : sp_n s 117 = Q.length := by unfold sp_n; rw [hQ.2.2.1, Int32.toNatClampNeg_ofNat_of_lt (show Q.length < 2 ^ 31 by omega)]
  have hy20 : Int32.ofNat y ≠ 20 := px_small (q := 20) (by omega) (by decide) (by omega)
  have hy30 : Int32.ofNat y ≠ 30 := px_small (q := 30) (by omega) (by decide) (by omega)
  have hy10 : Int32.ofNat y < 10 := by
    rw [show (10 : Int32) = Int32.ofNat 10 from rfl, px_lt (by omega) (by omega)]; omega
  obtain ⟨hQ2, g⟩ := sp_Qwears (x := Int32.ofNat y) hQ ok hk hy20
  have t65 : sp_wears s (Int32.ofNat y) k (65 + k) = Int32.ofNat y := by unfold sp_wears; rw [px_ueq]
  have at6 := (hR.2.2.2.2.2.1 k hk).1
  rw [fn_X3_wear]
  simp (disch := first | assumption | omega) only [rx_rc, rg_c, rg_day, rg_bares, rg_firstBare, rg_eaten, rg_queued, rg_seed, rp_c, rp_day, rp_bares, rp_firstBare, rp_eaten, rp_queued, rp_seed, rr_at, rl_at, rs_at, ra_at, rr_cloth, rl_cloth, rs_cloth, ra_cloth, rr_user, rl_user, rs_user, ra_user, rr_since, rl_since, rs_since, ra_since, rr_queue, rl_queue, rs_queue, ra_queue, rr_harm, rl_harm, rs_harm, ra_harm, rr_ruled, rl_ruled, rs_ruled, ra_ruled, px_c1r, px_cI, px_cR, px_cV, px_ckz, px_ckz0, px_ckz1, cz_leti, cz_jn, at6]
  by_cases e20 : s (65 + k) = 20
  · rw [if_pos e20]
    obtain ⟨gg, g1, g2⟩ := rm_leaves_4 (h := h) (r := r) (k := k) (k0 := fun (e11 : Int32) (h12 : cz_H) => cz_put h12 (some r) [(3, 5)] (cz_i e11) (fun h13 => some (.inl none, h13))) hb hl Q.length 1000 0 0 R s hq5 (fun x _ hx => hR.2.2.2.2.2.2.1 x (by omega)) (Nat.le_refl _) (Nat.zero_add _) (by omega)
    have lv : fn_X3_leaves (some r) (Int32.ofNat k) (rx_set h r R) = some (.inl none, rx_set h r (rx_I (rx_B R 10 gg) 5 (Int32.ofNat (sp_unq k Q.length 0 (0, s)).1))) := by
      rw [fn_X3_leaves]
      refine g1.trans ?_
      rw [rp_queued hb]
    rw [lv]
    simp (disch := first | assumption | omega) only [rx_rc, rg_c, rg_day, rg_bares, rg_firstBare, rg_eaten, rg_queued, rg_seed, rp_c, rp_day, rp_bares, rp_firstBare, rp_eaten, rp_queued, rp_seed, rr_at, rl_at, rs_at, ra_at, rr_cloth, rl_cloth, rs_cloth, ra_cloth, rr_user, rl_user, rs_user, ra_user, rr_since, rl_since, rs_since, ra_since, rr_queue, rl_queue, rs_queue, ra_queue, rr_harm, rl_harm, rs_harm, ra_harm, rr_ruled, rl_ruled, rs_ruled, ra_ruled, px_c1r, px_cI, px_cR, px_cV, px_ckz, px_ckz0, px_ckz1, cz_leti, cz_jn]
    refine ⟨_, rfl, ⟨by rw [rx_A1, rx_I1, rx_B1], by rw [rx_A2, rx_In (by decide), rx_B2]⟩, ?_⟩
    have hs117 : (s 117).toNatClampNeg = Q.length := hn117
    have q1 : sp_wears s (Int32.ofNat y) k 117 = Int32.ofNat (sp_unq k Q.length 0 (0, s)).1 := by
      have hle := sp_unq_le k Q.length 0 (0, s) (Nat.le_refl _)
      have hlt : (sp_unq k Q.length 0 (0, s)).1 ≠ 8 := by
        obtain ⟨u1, -, -⟩ := sp_unq_is k (by omega) Q 0 0 s (fun y hy => by have := hQ.2.1 y hy; omega) (Nat.le_refl _) (fun i hi => hQ.2.2.2.1 i hi)
        have hm : k ∈ Q := (hQ.2.2.2.2 k hk).mpr e20
        have : (Q.filter (fun x => decide (x ≠ k))).length < Q.length := by
          rw [← List.countP_eq_length_filter]
          refine Nat.lt_of_le_of_ne List.countP_le_length fun e => ?_
          have := List.countP_eq_length.mp e k hm
          simp at this
        omega
      unfold sp_wears sp_unqueues
      rw [if_pos e20, px_une (by omega), hs117, px_une (by omega), px_ueq]
    refine rx_ok_at h8 h6 hR ?_ ?_ ?_ ?_ hk g ?_ ?_ ?_ ?_ ?_ ?_ ?_ ?_ h30 (by rw [t65]; exact hy30) (Or.inl (by rw [t65]; exact hy10))
    · rw [rx_A2, rx_In (by decide), rx_B2]
    · rw [rx_A2, rx_In (by decide), rx_B2]
    · rw [rx_A2, rx_In (by decide), rx_B2]
    · rw [rx_A2, rx_In (by decide), rx_B2]
    · rw [rx_A2, rx_Ie, q1]
    · intro j
      rw [rx_Ae, rx_I3, rx_Bn (by decide), t65]
      rfl
    · rw [rx_An (by decide), rx_I3, rx_Bn (by decide)]
    · rw [rx_An (by decide), rx_I3, rx_Bn (by decide)]
    · rw [rx_An (by decide), rx_I3, rx_Bn (by decide)]
    · intro j hj
      rw [rx_An (by decide), rx_I3, rx_Be]
      obtain ⟨u1, -, -⟩ := sp_unq_is k (by omega) Q 0 0 s (fun y hy => by have := hQ.2.1 y hy; omega) (Nat.le_refl _) (fun i hi => hQ.2.2.2.1 i hi)
      have hfl : (Q.filter (fun x => decide (x ≠ k))).length ≤ Q.length := List.length_filter_le _ _
      have hj2 : j < (sp_unq k Q.length 0 (0, s)).1 := by
        have : sp_n (sp_wears s (Int32.ofNat y) k) 117 = (sp_unq k Q.length 0 (0, s)).1 := by unfold sp_n; rw [q1, Int32.toNatClampNeg_ofNat_of_lt (show (sp_unq k Q.length 0 (0, s)).1 < 2 ^ 31 by omega)]
        omega
      rw [g2 j (by omega)]
      unfold sp_wears sp_unqueues
      rw [if_pos e20, px_une (by omega), hs117, px_une (by omega), px_une (by omega)]
    · rw [rx_An (by decide), rx_I3, rx_Bn (by decide)]
    · rw [rx_An (by decide), rx_I3, rx_Bn (by decide)]
  · rw [if_neg e20]
    refine ⟨_, rfl, ⟨by rw [rx_A1], by rw [rx_A2]⟩, ?_⟩
    have ew : sp_wears s (Int32.ofNat y) k = upd s (65 + k) (Int32.ofNat y) := by unfold sp_wears; rw [if_neg e20]
    refine rx_ok_at h8 h6 hR (by rw [rx_A2]) (by rw [rx_A2]) (by rw [rx_A2]) (by rw [rx_A2]) hk g ?_ ?_ ?_ ?_ ?_ ?_ ?_ ?_ h30 (by rw [t65]; exact hy30) (Or.inl (by rw [t65]; exact hy10))
    · rw [rx_A2, ew, px_une (by omega)]; exact hR.2.2.2.2.1
    · intro j
      rw [rx_Ae, t65]
      rfl
    · rw [rx_An (by decide)]
    · rw [rx_An (by decide)]
    · rw [rx_An (by decide)]
    · intro j hj
      rw [rx_An (by decide), ew, px_une (by omega)]
      refine hR.2.2.2.2.2.2.1 j ?_
      rw [ew, sp_n_upd (by omega)] at hj
      exact hj
    · rw [rx_An (by decide)]
    · rw [rx_An (by decide)]
end RXG
