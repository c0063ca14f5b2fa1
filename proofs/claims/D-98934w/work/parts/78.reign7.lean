/-! THE PLAIN LAW, 18: what stays; a Reign's harm -/
set_option maxRecDepth 100000
section PCM
variable {F G : Nat → Option cz_C} {c : Nat} {s t : Nat → Int32} {nm : Nat → Int64}
theorem pc_List.mono (hFG : ∀ a x, F a = some x → G a = some x) {l n : Nat} {P P2 : Nat → Nat → Prop} (hP : ∀ i e, P i e → P2 i e) (h : pc_List F l n P) : pc_List G l n P2 := by
  obtain ⟨V, d, len, E, q1, q2, q3, q4, q5, q6⟩ := h
  refine ⟨V, d, len, E, hFG _ _ q1, q2, q3, hFG _ _ q4, q5, fun i hi => ?_⟩
  obtain ⟨e, e1, e2⟩ := q6 i hi
  exact ⟨e, e1, hP i e e2⟩
theorem pc_Str.mono (hFG : ∀ a x, F a = some x → G a = some x) {st : Nat} {w : List Int32} (h : pc_Str F st w) : pc_Str G st w := by
  obtain ⟨V, v, g, q1, q2, q3, q4, q5⟩ := h
  exact ⟨V, v, g, hFG _ _ q1, q2, q3, hFG _ _ q4, q5⟩
theorem pc_Told.mono (hFG : ∀ a x, F a = some x → G a = some x) {num : Nat → Int32} {nm : Nat → Int64} {i e : Nat} (h : pc_Told F num nm i e) : pc_Told G num nm i e := by
  obtain ⟨V, st, w, q1, q2, q3, q4, q5⟩ := h
  exact ⟨V, st, w, hFG _ _ q1, q2, q3, q4.mono hFG, q5⟩
theorem pc_Coat.mono (hFG : ∀ a x, F a = some x → G a = some x) {i e : Nat} (h : pc_Coat F s nm i e) : pc_Coat G s nm i e := by
  obtain ⟨V, st, w, q1, q2, q3, q4, q5, q6, q7⟩ := h
  exact ⟨V, st, w, hFG _ _ q1, q2, q3, q4, q5, q6.mono hFG, q7⟩
theorem pc_Cap.mono (hFG : ∀ a x, F a = some x → G a = some x) (h : pc_Cap F c s nm) : pc_Cap G c s nm := by
  obtain ⟨V, ls, lm, lc, f0, f1, g0, g1, v1, v2, v3, v4, v5, v6, v7, v8, v9, v10, v11, v12, v13, v14, l1, l2, l3⟩ := h
  exact ⟨V, ls, lm, lc, f0, f1, g0, g1, hFG _ _ v1, v2, v3, v4, v5, v6, v7, v8, v9, v10, v11, hFG _ _ v12, hFG _ _ v13, v14, l1.mono hFG (fun i e => pc_Told.mono hFG), l2.mono hFG (fun i e => pc_Told.mono hFG), l3.mono hFG (fun i e => pc_Coat.mono hFG)⟩
/-- a Capital is told by the row's first 62 numbers -/
theorem pc_Cap.same (ok : sp_ok s) (hs : sp_same s t) (h : pc_Cap F c s nm) : pc_Cap F c t nm := by
  have h0 := ok.1.2
  have h1 := ok.2.1.2
  have h2 := ok.2.2.1.2
  have h7 := ok.2.2.2.2
  obtain ⟨V, ls, lm, lc, f0, f1, g0, g1, v1, v2, v3, v4, v5, v6, v7, v8, v9, v10, v11, v12, v13, v14, l1, l2, l3⟩ := h
  refine ⟨V, ls, lm, lc, f0, f1, g0, g1, v1, by rw [hs 7 (by omega)]; exact v2, by rw [hs 3 (by omega)]; exact v3, by rw [hs 4 (by omega)]; exact v4, by rw [hs 5 (by omega)]; exact v5, by rw [hs 6 (by omega)]; exact v6, v7, v8, v9, v10, v11, v12, v13, ?_, ?_, ?_, ?_⟩
  · intro k hk
    rw [hs.n (by omega)] at hk
    rw [hs (46 + k) (by omega), hs (54 + k) (by omega)]
    exact v14 k hk
  · rw [hs.n (by omega)]
    obtain ⟨V, d, len, E, q1, q2, q3, q4, q5, q6⟩ := l1
    refine ⟨V, d, len, E, q1, q2, q3, q4, q5, fun i hi => ?_⟩
    obtain ⟨e, e1, U, st, w, w1, w2, w3, w4⟩ := q6 i hi
    exact ⟨e, e1, U, st, w, w1, w2, by dsimp only; rw [hs (8 + i) (by omega)]; exact w3, w4⟩
  · rw [hs.n (by omega)]
    obtain ⟨V, d, len, E, q1, q2, q3, q4, q5, q6⟩ := l2
    refine ⟨V, d, len, E, q1, q2, q3, q4, q5, fun i hi => ?_⟩
    obtain ⟨e, e1, U, st, w, w1, w2, w3, w4⟩ := q6 i hi
    exact ⟨e, e1, U, st, w, w1, w2, by dsimp only; rw [hs (16 + i) (by omega)]; exact w3, w4⟩
  · rw [hs.n (by omega)]
    obtain ⟨V, d, len, E, q1, q2, q3, q4, q5, q6⟩ := l3
    refine ⟨V, d, len, E, q1, q2, q3, q4, q5, fun i hi => ?_⟩
    obtain ⟨e, e1, U, st, w, w1, w2, w3, w4, w5, w6⟩ := q6 i hi
    exact ⟨e, e1, U, st, w, w1, w2, by rw [hs (22 + i) (by omega)]; exact w3, by rw [hs (30 + i) (by omega)]; exact w4, by rw [hs (38 + i) (by omega)]; exact w5, w6⟩
theorem sp_colds_same (ok : sp_ok s) (hs : sp_same s t) (h : sp_colds s) : sp_colds t := by
  have h7 := ok.2.2.2.2
  unfold sp_colds at *
  rw [hs.n (by omega)]
  refine ⟨fun k hk => by rw [hs (46 + k) (by omega)]; exact h.1 k hk, fun i k hi hk => ?_⟩
  rw [hs (46 + i) (by omega), hs (46 + k) (by omega)]
  exact h.2 i k hi hk
end PCM
/-- the heap without the Reign at r -/
def rx_no (h : cz_H) (r : Nat) : Nat → Option cz_C := fun q => if r ≤ q ∧ q < r + 8 then none else h.2.2.2 q
theorem rx_no_in {h : cz_H} {r : Nat} {R : rx_R} : ∀ a x, rx_no h r a = some x → (rx_set h r R).2.2.2 a = some x := by
  intro a x e
  unfold rx_no at e
  split at e
  · cases e
  · rename_i hq
    exact (if_neg hq).trans e
/-- a Reign at r of the row s; its Capital lies elsewhere -/
def rx_on (h : cz_H) (r : Nat) (R : rx_R) (c : Nat) (s : Nat → Int32) (nm : Nat → Int64) : Prop := sp_oq s ∧ sp_colds s ∧ R.1 = some c ∧ pc_Cap (rx_no h r) c s nm ∧ rx_ok R s
theorem rx_on.is {h : cz_H} {r : Nat} {R : rx_R} {c : Nat} {s : Nat → Int32} {nm : Nat → Int64} (H : rx_on h r R c s nm) : rx_is h r R c s nm := ⟨H.1.1, H.2.1, H.2.2.1, H.2.2.2.1.mono rx_no_in, H.2.2.2.2⟩
theorem rx_on.next {h : cz_H} {r : Nat} {R R2 : rx_R} {c : Nat} {s t : Nat → Int32} {nm : Nat → Int64} (H : rx_on h r R c s nm) (hs : sp_same s t) (ht : sp_oq t) (hR : R2.1 = R.1) (hok : rx_ok R2 t) : rx_on h r R2 c t nm := ⟨ht, sp_colds_same H.1.1 hs H.2.1, hR.trans H.2.2.1, H.2.2.2.1.same H.1.1 hs, hok⟩
section RXI
variable {h : cz_H} {r c : Nat} {R : rx_R} {s : Nat → Int32} {nm : Nat → Int64}
theorem rm_pass_15 {k0 : cz_H → cz_Z} {N : Nat} (hb : h.1.1 ≤ r) : ∀ (n f k : Nat) (R : rx_R) (s : Nat → Int32), rx_on h r R c s nm → sp_n s 1 = N → k + n = N → n < f → ∃ R2 : rx_R, fn_X3_pass_15 (some r) k0 f (Int32.ofNat k) (rx_set h r R) = k0 (rx_set h r R2) ∧ (R2.1 = R.1 ∧ R2.2.1 13 = R.2.1 13) ∧ rx_ok R2 (sp_harms n k s) := by
  intro n
  induction n with
  | zero =>
    intro f k R s H hs hk hf
    obtain ⟨f, rfl⟩ : ∃ g, f = g + 1 := ⟨f - 1, by omega⟩
    have h6 := H.1.1.2.1.2
    refine ⟨R, ?_, ⟨rfl, rfl⟩, H.2.2.2.2⟩
    rw [fn_X3_pass_15]
    simp (disch := first | assumption | omega) only [rx_rc, rg_c, rg_day, rg_bares, rg_firstBare, rg_eaten, rg_queued, rg_seed, rp_c, rp_day, rp_bares, rp_firstBare, rp_eaten, rp_queued, rp_seed, rr_at, rl_at, rs_at, ra_at, rr_cloth, rl_cloth, rs_cloth, ra_cloth, rr_user, rl_user, rs_user, ra_user, rr_since, rl_since, rs_since, ra_since, rr_queue, rl_queue, rs_queue, ra_queue, rr_harm, rl_harm, rs_harm, ra_harm, rr_ruled, rl_ruled, rs_ruled, ra_ruled, px_c1r, px_cI, px_cR, px_cV, px_ckz, px_ckz0, px_ckz1, cz_leti, cz_jn, rm_men H.is.2.2.1 H.is.2.2.2.1]
    rw [if_pos (by rw [px_le (by omega) (by omega)]; omega)]
  | succ n ih =>
    intro f k R s H hs hk hf
    obtain ⟨f, rfl⟩ : ∃ g, f = g + 1 := ⟨f - 1, by omega⟩
    have h6 := H.1.1.2.1.2
    have h8 := H.1.1.2.2.1.2
    have hi := H.is
    have hR := H.2.2.2.2
    have b11 := (hR.2.2.2.2.2.2.2 k (by omega)).1
    have ch := rm_chill (day := s 62) (a := sp_coatsAt s (Int32.ofNat k)) hi (show k < sp_n s 1 by omega)
    have e : sp_harms (n + 1) k s = sp_harms n (k + 1) (upd s (97 + k) (s (97 + k) + sp_chill s k * sp_chill s k)) := rfl
    have ok2 : rx_ok (rx_A R 11 k (s (97 + k) + sp_chill s k * sp_chill s k)) (upd s (97 + k) (s (97 + k) + sp_chill s k * sp_chill s k)) := by
      refine rx_ok_num h8 h6 hR (fun q hq => by rw [px_une (by omega)]) ?_ ?_ ?_ ?_ ?_ ?_ ?_
      · rw [rx_A2]
      · rw [rx_A2, px_une (by omega)]; exact hR.2.1
      · rw [rx_A2, px_une (by omega)]; exact hR.2.2.1
      · rw [rx_A2]
      · rw [rx_A2]
      · intro j hj; rw [rx_An (by omega)]
      · intro j hj
        obtain ⟨c1, c2⟩ := hR.2.2.2.2.2.2.2 j hj
        rw [rx_Ae, rx_An (by decide), px_une (show 103 + j ≠ 97 + k by omega)]
        refine ⟨?_, c2⟩
        by_cases ej : j = k
        · subst ej; rw [px_ueq, px_ueq]
        · rw [px_une ej, px_une (by omega)]; exact c1
    obtain ⟨Q, hQ⟩ := H.1.2
    have H2 : rx_on h r (rx_A R 11 k (s (97 + k) + sp_chill s k * sp_chill s k)) c (upd s (97 + k) (s (97 + k) + sp_chill s k * sp_chill s k)) nm :=
      H.next (sp_same_upd (by omega)) ⟨sp_ok_upd H.1.1 (by omega), Q, sp_Qupd hQ H.1.1 (by omega) (by omega) (by omega)⟩ rx_A1 ok2
    obtain ⟨R2, r1, r2, r3⟩ := ih f (k + 1) _ _ H2 (by rw [sp_n_upd (by omega)]; exact hs) (by omega) (by omega)
    refine ⟨R2, ?_, ⟨r2.1.trans rx_A1, r2.2.trans (by rw [rx_A2])⟩, by rw [e]; exact r3⟩
    rw [fn_X3_pass_15]
    simp (disch := first | assumption | omega) only [rx_rc, rg_c, rg_day, rg_bares, rg_firstBare, rg_eaten, rg_queued, rg_seed, rp_c, rp_day, rp_bares, rp_firstBare, rp_eaten, rp_queued, rp_seed, rr_at, rl_at, rs_at, ra_at, rr_cloth, rl_cloth, rs_cloth, ra_cloth, rr_user, rl_user, rs_user, ra_user, rr_since, rl_since, rs_since, ra_since, rr_queue, rl_queue, rs_queue, ra_queue, rr_harm, rl_harm, rs_harm, ra_harm, rr_ruled, rl_ruled, rs_ruled, ra_ruled, px_c1r, px_cI, px_cR, px_cV, px_ckz, px_ckz0, px_ckz1, cz_leti, cz_jn, rm_men hi.2.2.1 hi.2.2.2.1, rm_wornBy hi.1 hi.2.2.1 hi.2.2.2.1 hi.2.2.2.2, hR.1, ch, pc_square, b11]
    rw [if_neg (by rw [px_le (by omega) (by omega)]; omega)]
    exact r1
end RXI
