/-! THE PLAIN LAW, 17: a Reign's noon and harm -/
set_option maxRecDepth 100000
theorem rx_ok_num {R R2 : rx_R} {s t : Nat → Int32} (h8 : sp_n s 2 ≤ 8) (h6 : sp_n s 1 ≤ 6) (hR : rx_ok R s) (g : ∀ q, q < 63 ∨ (65 ≤ q ∧ q < 97) ∨ 109 ≤ q → t q = s q) (i1 : R2.2.1 1 = R.2.1 1) (i2 : R2.2.1 2 = t 63) (i3 : R2.2.1 3 = t 64 - 1) (i4 : R2.2.1 4 = R.2.1 4) (i5 : R2.2.1 5 = R.2.1 5)
    (a6 : ∀ j, j < 11 → R2.2.2 j = R.2.2 j) (a11 : ∀ k, k < sp_n s 1 → R2.2.2 11 k = t (97 + k) ∧ R2.2.2 12 k = t (103 + k)) : rx_ok R2 t := by
  obtain ⟨b1, b2, b3, b4, b5, b6, b7, b8⟩ := hR
  have e2 : sp_n t 2 = sp_n s 2 := by unfold sp_n; rw [g 2 (by omega)]
  have e1 : sp_n t 1 = sp_n s 1 := by unfold sp_n; rw [g 1 (by omega)]
  have e117 : sp_n t 117 = sp_n s 117 := by unfold sp_n; rw [g 117 (by omega)]
  unfold rx_ok
  rw [e2, e1, e117]
  refine ⟨by rw [i1, b1, g 62 (by omega)], i2, i3, ?_, by rw [i5, b5, g 117 (by omega)], ?_, ?_, a11⟩
  · rw [i4, b4]
    refine (sp_coatsAt_congr e2 fun j hj => ?_).symm
    rw [g _ (by omega)]
  · intro j hj
    rw [a6 6 (by omega), a6 7 (by omega), a6 8 (by omega), a6 9 (by omega), g (65 + j) (by omega), g (81 + j) (by omega), g (73 + j) (by omega), g 62 (by omega), g (89 + j) (by omega)]
    exact b6 j hj
  · intro j hj
    rw [a6 10 (by omega), g (109 + j) (by omega)]
    exact b7 j hj
section RXH
variable {h : cz_H} {r c : Nat} {R : rx_R} {s : Nat → Int32} {nm : Nat → Int64}
theorem px_m1 (x : Int32) : (x - 1 = -1) = (x = 0) := by
  apply propext
  constructor
  · intro e
    have e2 : x - 1 + 1 = -1 + 1 := by rw [e]
    rw [Int32.sub_add_cancel] at e2
    rw [e2]; rfl
  · intro e; rw [e]; rfl
theorem rm_noon (hb : h.1.1 ≤ r) (H : rx_is h r R c s nm) : ∃ R2 : rx_R, fn_X3_noon (some r) (rx_set h r R) = some (.inl none, rx_set h r R2) ∧ (R2.1 = R.1 ∧ R2.2.1 13 = R.2.1 13) ∧ rx_ok R2 (sp_noon s) := by
  have hT := rm_rulerT H
  obtain ⟨ok, hd, hr, hC, hR⟩ := H
  have h8 := ok.2.2.1.2
  have h6 := ok.2.1.2
  rw [fn_X3_noon]
  simp (disch := first | assumption | omega) only [rx_rc, rg_c, rg_day, rg_bares, rg_firstBare, rg_eaten, rg_queued, rg_seed, rp_c, rp_day, rp_bares, rp_firstBare, rp_eaten, rp_queued, rp_seed, rr_at, rl_at, rs_at, ra_at, rr_cloth, rl_cloth, rs_cloth, ra_cloth, rr_user, rl_user, rs_user, ra_user, rr_since, rl_since, rs_since, ra_since, rr_queue, rl_queue, rs_queue, ra_queue, rr_harm, rl_harm, rs_harm, ra_harm, rr_ruled, rl_ruled, rs_ruled, ra_ruled, px_c1r, px_cI, px_cR, px_cV, px_ckz, px_ckz0, px_ckz1, cz_leti, cz_jn, hT, rx_In, hR.2.2.1, px_m1]
  unfold sp_noon
  rcases sp_ruler_is s with e | ⟨k, hk, e⟩
  · rw [e, if_pos rfl, if_pos (show (-1 : Int32) < 0 by decide)]
    by_cases e64 : s 64 = 0
    · rw [if_pos e64, if_pos e64]
      refine ⟨_, rfl, ⟨by rw [rx_I1, rx_I1], by rw [rx_In (by decide), rx_In (by decide)]⟩, ?_⟩
      refine rx_ok_num h8 h6 hR (fun q hq => by rw [px_une (by omega), px_une (by omega)]) ?_ ?_ ?_ ?_ ?_ ?_ ?_
      · rw [rx_In (by decide), rx_In (by decide)]
      · rw [rx_In (by decide), rx_Ie, px_une (by omega), px_ueq, hR.2.1]
      · rw [rx_Ie, px_ueq, Int32.add_sub_cancel, hR.1]
      · rw [rx_In (by decide), rx_In (by decide)]
      · rw [rx_In (by decide), rx_In (by decide)]
      · intro j _; rw [rx_I3, rx_I3]
      · intro j hj
        rw [rx_I3, rx_I3, px_une (by omega), px_une (by omega), px_une (by omega), px_une (by omega)]
        exact hR.2.2.2.2.2.2.2 j hj
    · rw [if_neg e64, if_neg e64]
      refine ⟨_, rfl, ⟨by rw [rx_I1], by rw [rx_In (by decide)]⟩, ?_⟩
      refine rx_ok_num h8 h6 hR (fun q hq => by rw [px_une (by omega)]) ?_ ?_ ?_ ?_ ?_ ?_ ?_
      · rw [rx_In (by decide)]
      · rw [rx_Ie, px_ueq, hR.2.1]
      · rw [rx_In (by decide), px_une (by omega), hR.2.2.1]
      · rw [rx_In (by decide)]
      · rw [rx_In (by decide)]
      · intro j _; rw [rx_I3]
      · intro j hj
        rw [rx_I3, px_une (by omega), px_une (by omega)]
        exact hR.2.2.2.2.2.2.2 j hj
  · have hkk : (Int32.ofNat k).toNatClampNeg = k := Int32.toNatClampNeg_ofNat_of_lt (show k < 2 ^ 31 by omega)
    rw [e, if_neg (px_pos (by omega)), if_neg (px_neg (by omega)), hkk]
    simp (disch := first | assumption | omega) only [rx_rc, rg_c, rg_day, rg_bares, rg_firstBare, rg_eaten, rg_queued, rg_seed, rp_c, rp_day, rp_bares, rp_firstBare, rp_eaten, rp_queued, rp_seed, rr_at, rl_at, rs_at, ra_at, rr_cloth, rl_cloth, rs_cloth, ra_cloth, rr_user, rl_user, rs_user, ra_user, rr_since, rl_since, rs_since, ra_since, rr_queue, rl_queue, rs_queue, ra_queue, rr_harm, rl_harm, rs_harm, ra_harm, rr_ruled, rl_ruled, rs_ruled, ra_ruled, px_c1r, px_cI, px_cR, px_cV, px_ckz, px_ckz0, px_ckz1, cz_leti, cz_jn]
    refine ⟨_, rfl, ⟨by rw [rx_A1], by rw [rx_A2]⟩, ?_⟩
    refine rx_ok_num h8 h6 hR (fun q hq => by rw [px_une (by omega)]) ?_ ?_ ?_ ?_ ?_ ?_ ?_
    · rw [rx_A2]
    · rw [rx_A2, px_une (by omega)]; exact hR.2.1
    · rw [rx_A2, px_une (by omega)]; exact hR.2.2.1
    · rw [rx_A2]
    · rw [rx_A2]
    · intro j hj; rw [rx_An (by omega)]
    · intro j hj
      obtain ⟨b1, b2⟩ := hR.2.2.2.2.2.2.2 j hj
      rw [rx_An (by decide), rx_Ae, px_une (by omega)]
      refine ⟨b1, ?_⟩
      by_cases ej : j = k
      · subst ej
        rw [px_ueq, px_ueq, b2]
      · rw [px_une ej, px_une (by omega)]
        exact b2
end RXH
