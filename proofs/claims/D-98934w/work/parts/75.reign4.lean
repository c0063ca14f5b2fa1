/-! THE PLAIN LAW, 15: a Reign's acts -/
set_option maxRecDepth 100000
theorem rx_Ae {R : rx_R} {j i : Nat} {v : Int32} : (rx_A R j i v).2.2 j = upd (R.2.2 j) i v := if_pos rfl
theorem rx_An {R : rx_R} {j i q : Nat} {v : Int32} (h : q ≠ j) : (rx_A R j i v).2.2 q = R.2.2 q := if_neg h
theorem rx_A1 {R : rx_R} {j i : Nat} {v : Int32} : (rx_A R j i v).1 = R.1 := by
  unfold rx_A
  rfl
theorem rx_A2 {R : rx_R} {j i : Nat} {v : Int32} : (rx_A R j i v).2.1 = R.2.1 := by
  unfold rx_A
  rfl
theorem rx_Ie {R : rx_R} {j : Nat} {v : Int32} : (rx_I R j v).2.1 j = v := if_pos rfl
theorem rx_In {R : rx_R} {j q : Nat} {v : Int32} (h : q ≠ j) : (rx_I R j v).2.1 q = R.2.1 q := if_neg h
theorem rx_I1 {R : rx_R} {j : Nat} {v : Int32} : (rx_I R j v).1 = R.1 := by
  unfold rx_I
  rfl
theorem rx_I3 {R : rx_R} {j : Nat} {v : Int32} : (rx_I R j v).2.2 = R.2.2 := by
  unfold rx_I
  rfl
theorem rx_Bid {R : rx_R} {j : Nat} : rx_B R j (R.2.2 j) = R := by
  unfold rx_B
  refine Prod.ext rfl (Prod.ext rfl ?_)
  funext q
  dsimp only
  split
  · rename_i e; rw [e]
  · rfl
theorem rx_AB {R : rx_R} {j i : Nat} {v : Int32} {g : Nat → Int32} : rx_B (rx_A R j i v) j g = rx_B R j g := by
  unfold rx_A rx_B
  refine Prod.ext rfl (Prod.ext rfl ?_)
  funext q
  dsimp only
  split <;> rfl
theorem rx_Be {R : rx_R} {j : Nat} {g : Nat → Int32} : (rx_B R j g).2.2 j = g := if_pos rfl
theorem rx_Bn {R : rx_R} {j q : Nat} {g : Nat → Int32} (h : q ≠ j) : (rx_B R j g).2.2 q = R.2.2 q := if_neg h
theorem rx_B1 {R : rx_R} {j : Nat} {g : Nat → Int32} : (rx_B R j g).1 = R.1 := by
  unfold rx_B
  rfl
theorem rx_B2 {R : rx_R} {j : Nat} {g : Nat → Int32} : (rx_B R j g).2.1 = R.2.1 := by
  unfold rx_B
  rfl
theorem px_small {p q : Nat} (hp : p < 1000) (hq : q < 1000) (h : p ≠ q) : Int32.ofNat p ≠ Int32.ofNat q := by
  intro e
  rw [px_inj (by omega) (by omega)] at e
  exact h e
section RXF
variable {h : cz_H} {r c : Nat} {R : rx_R} {s : Nat → Int32} {nm : Nat → Int64}
theorem rm_lay {k : Nat} {x : Int32} (hb : h.1.1 ≤ r) (hk : k < 8) : fn_X3_lay (some r) (Int32.ofNat k) x (rx_set h r R) = some (.inl none, rx_set h r (rx_A (rx_A R 6 k (10 + x)) 9 k (R.2.1 1))) := by
  rw [fn_X3_lay]
  simp (disch := first | assumption | omega) only [rx_rc, rg_c, rg_day, rg_bares, rg_firstBare, rg_eaten, rg_queued, rg_seed, rp_c, rp_day, rp_bares, rp_firstBare, rp_eaten, rp_queued, rp_seed, rr_at, rl_at, rs_at, ra_at, rr_cloth, rl_cloth, rs_cloth, ra_cloth, rr_user, rl_user, rs_user, ra_user, rr_since, rl_since, rs_since, ra_since, rr_queue, rl_queue, rs_queue, ra_queue, rr_harm, rl_harm, rs_harm, ra_harm, rr_ruled, rl_ruled, rs_ruled, ra_ruled, px_c1r, px_cI, px_cR, px_cV, px_ckz, px_ckz0, px_ckz1, cz_leti, cz_jn, rx_A2]
theorem rx_lay {k y : Nat} (ok : sp_ok s) (hR : rx_ok R s) (hk : k < sp_n s 2) (hy : y < 8) (hw : s (65 + k) ≠ 30) : rx_ok (rx_A (rx_A R 6 k (10 + Int32.ofNat y)) 9 k (R.2.1 1)) (sp_lays s k (Int32.ofNat y)) := by
  have h8 := ok.2.2.1.2
  have h6 := ok.2.1.2
  obtain ⟨a1, a2, a3, a4, a5, a6, a7, a8⟩ := hR
  have e2 : sp_n (sp_lays s k (Int32.ofNat y)) 2 = sp_n s 2 := by unfold sp_lays; rw [sp_n_upd (by omega), sp_n_upd (by omega)]
  have e1 : sp_n (sp_lays s k (Int32.ofNat y)) 1 = sp_n s 1 := by unfold sp_lays; rw [sp_n_upd (by omega), sp_n_upd (by omega)]
  have e117 : sp_n (sp_lays s k (Int32.ofNat y)) 117 = sp_n s 117 := by unfold sp_lays; rw [sp_n_upd (by omega), sp_n_upd (by omega)]
  have g : ∀ q, q ≠ 65 + k → q ≠ 89 + k → sp_lays s k (Int32.ofNat y) q = s q := fun q h1 h2 => by unfold sp_lays; rw [px_une h2, px_une h1]
  have g65 : sp_lays s k (Int32.ofNat y) (65 + k) = 10 + Int32.ofNat y := by unfold sp_lays; rw [px_une (by omega), px_ueq]
  have g89 : sp_lays s k (Int32.ofNat y) (89 + k) = 0 := by unfold sp_lays; rw [px_ueq]
  have hne : 10 + Int32.ofNat y ≠ 30 := by rw [px_c10]; exact px_small (q := 30) (by omega) (by decide) (by omega)
  unfold rx_ok
  rw [e2, e1, e117]
  simp only [rx_A2]
  refine ⟨by rw [a1, g _ (by omega) (by omega)], by rw [a2, g _ (by omega) (by omega)], by rw [a3, g _ (by omega) (by omega)], ?_, by rw [a5, g _ (by omega) (by omega)], ?_, ?_, ?_⟩
  · rw [a4]
    refine (sp_coatsAt_congr e2 fun j hj => ?_).symm
    by_cases e : j = k
    · subst e
      rw [g65]
      exact ⟨fun q => absurd q hne, fun q => absurd q hw⟩
    · rw [g _ (by omega) (by omega)]
  · intro j hj
    obtain ⟨b1, b2, b3, b4⟩ := a6 j hj
    rw [rx_An (show 6 ≠ 9 by decide), rx_Ae, rx_An (show 7 ≠ 9 by decide), rx_An (show 7 ≠ 6 by decide), rx_An (show 8 ≠ 9 by decide), rx_An (show 8 ≠ 6 by decide), rx_Ae, rx_An (show 9 ≠ 6 by decide)]
    by_cases e : j = k
    · subst e
      rw [px_ueq, px_ueq, g65, g89, g (81 + j) (by omega) (by omega), g (73 + j) (by omega) (by omega), g 62 (by omega) (by omega), a1]
      exact ⟨rfl, b2, b3, fun _ _ => (Int32.sub_zero _).symm⟩
    · rw [px_une e, px_une e, g (65 + j) (by omega) (by omega), g (81 + j) (by omega) (by omega), g (73 + j) (by omega) (by omega), g 62 (by omega) (by omega), g (89 + j) (by omega) (by omega)]
      exact ⟨b1, b2, b3, b4⟩
  · intro j hj
    rw [rx_An (show 10 ≠ 9 by decide), rx_An (show 10 ≠ 6 by decide)]
    rw [a7 j hj]
    by_cases hj8 : j < 8
    · rw [g _ (by omega) (by omega)]
    · rw [g _ (by omega) (by omega)]
  · intro j hj
    rw [rx_An (show 11 ≠ 9 by decide), rx_An (show 11 ≠ 6 by decide), rx_An (show 12 ≠ 9 by decide), rx_An (show 12 ≠ 6 by decide), g _ (by omega) (by omega), g _ (by omega) (by omega)]
    exact a8 j hj
theorem rm_keep {k q : Nat} (hb : h.1.1 ≤ r) (hk : k < 8) (hq : R.2.1 5 = Int32.ofNat q) (hq8 : q < 8) : fn_X3_keep (some r) (Int32.ofNat k) (rx_set h r R) = some (.inl none, rx_set h r (rx_I (rx_A (rx_A R 6 k 20) 10 q (Int32.ofNat k)) 5 (Int32.ofNat (q + 1)))) := by
  rw [fn_X3_keep]
  simp (disch := first | assumption | omega) only [rx_rc, rg_c, rg_day, rg_bares, rg_firstBare, rg_eaten, rg_queued, rg_seed, rp_c, rp_day, rp_bares, rp_firstBare, rp_eaten, rp_queued, rp_seed, rr_at, rl_at, rs_at, ra_at, rr_cloth, rl_cloth, rs_cloth, ra_cloth, rr_user, rl_user, rs_user, ra_user, rr_since, rl_since, rs_since, ra_since, rr_queue, rl_queue, rs_queue, ra_queue, rr_harm, rl_harm, rs_harm, ra_harm, rr_ruled, rl_ruled, rs_ruled, ra_ruled, px_c1r, px_cI, px_cR, px_cV, px_ckz, px_ckz0, px_ckz1, cz_leti, cz_jn, rx_A2, hq]
theorem rx_keep {k : Nat} {Q : List Nat} (ok : sp_ok s) (hQ : sp_Q s Q) (hR : rx_ok R s) (hk : k < sp_n s 2) (h30 : s (65 + k) ≠ 30) (h20 : s (65 + k) ≠ 20) : rx_ok (rx_I (rx_A (rx_A R 6 k 20) 10 Q.length (Int32.ofNat k)) 5 (Int32.ofNat (Q.length + 1))) (sp_keeps s k) := by
  have h8 := ok.2.2.1.2
  have h6 := ok.2.1.2
  have hl := hQ.len7 ok hk h20
  have hq : (s 117).toNatClampNeg = Q.length := by rw [hQ.2.2.1, Int32.toNatClampNeg_ofNat_of_lt (show Q.length < 2 ^ 31 by omega)]
  obtain ⟨a1, a2, a3, a4, a5, a6, a7, a8⟩ := hR
  have g : ∀ q, q ≠ 65 + k → q ≠ 109 + Q.length → q ≠ 117 → sp_keeps s k q = s q := fun q h1 h2 h3 => by unfold sp_keeps; rw [hq, px_une h3, px_une h2, px_une h1]
  have g65 : sp_keeps s k (65 + k) = 20 := by unfold sp_keeps; rw [hq, px_une (by omega), px_une (by omega), px_ueq]
  have g109 : sp_keeps s k (109 + Q.length) = Int32.ofNat k := by unfold sp_keeps; rw [hq, px_une (by omega), px_ueq]
  have g117 : sp_keeps s k 117 = Int32.ofNat (Q.length + 1) := by unfold sp_keeps; rw [px_ueq, hQ.2.2.1, px_c1r]
  have e2 : sp_n (sp_keeps s k) 2 = sp_n s 2 := sp_keeps_same.n (by omega)
  have e1 : sp_n (sp_keeps s k) 1 = sp_n s 1 := sp_keeps_same.n (by omega)
  have e117 : sp_n (sp_keeps s k) 117 = Q.length + 1 := by unfold sp_n; rw [g117, Int32.toNatClampNeg_ofNat_of_lt (show Q.length + 1 < 2 ^ 31 by omega)]
  have e117' : sp_n s 117 = Q.length := hq
  unfold rx_ok
  rw [e2, e1, e117]
  simp only [rx_Ie, rx_I3]
  rw [rx_In (show 1 ≠ 5 by decide), rx_In (show 2 ≠ 5 by decide), rx_In (show 3 ≠ 5 by decide), rx_In (show 4 ≠ 5 by decide)]
  simp only [rx_A2]
  refine ⟨by rw [a1, g _ (by omega) (by omega) (by omega)], by rw [a2, g _ (by omega) (by omega) (by omega)], by rw [a3, g _ (by omega) (by omega) (by omega)], ?_, g117.symm, ?_, ?_, ?_⟩
  · rw [a4]
    refine (sp_coatsAt_congr e2 fun j hj => ?_).symm
    by_cases e : j = k
    · subst e
      rw [g65]
      exact ⟨fun q => absurd q (by decide), fun q => absurd q h30⟩
    · rw [g _ (by omega) (by omega) (by omega)]
  · intro j hj
    obtain ⟨b1, b2, b3, b4⟩ := a6 j hj
    rw [rx_An (show 6 ≠ 10 by decide), rx_Ae, rx_An (show 7 ≠ 10 by decide), rx_An (show 7 ≠ 6 by decide), rx_An (show 8 ≠ 10 by decide), rx_An (show 8 ≠ 6 by decide), rx_An (show 9 ≠ 10 by decide), rx_An (show 9 ≠ 6 by decide)]
    by_cases e : j = k
    · subst e
      rw [px_ueq, g65, g (81 + j) (by omega) (by omega) (by omega), g (73 + j) (by omega) (by omega) (by omega)]
      exact ⟨rfl, b2, b3, fun _ q => absurd q (by decide)⟩
    · rw [px_une e, g (65 + j) (by omega) (by omega) (by omega), g (81 + j) (by omega) (by omega) (by omega), g (73 + j) (by omega) (by omega) (by omega), g 62 (by omega) (by omega) (by omega), g (89 + j) (by omega) (by omega) (by omega)]
      exact ⟨b1, b2, b3, b4⟩
  · intro j hj
    rw [rx_Ae, rx_An (show 10 ≠ 6 by decide)]
    by_cases e : j = Q.length
    · subst e
      rw [px_ueq, g109]
    · rw [px_une e, a7 j (by omega), g _ (by omega) (by omega) (by omega)]
  · intro j hj
    rw [rx_An (show 11 ≠ 10 by decide), rx_An (show 11 ≠ 6 by decide), rx_An (show 12 ≠ 10 by decide), rx_An (show 12 ≠ 6 by decide), g _ (by omega) (by omega) (by omega), g _ (by omega) (by omega) (by omega)]
    exact a8 j hj
theorem rm_leaves_4 {k q : Nat} {k0 : Int32 → cz_H → cz_Z} (hb : h.1.1 ≤ r) (hq8 : q ≤ 8) : ∀ (n f i j : Nat) (R : rx_R) (s : Nat → Int32), R.2.1 5 = Int32.ofNat q → (∀ x, x < 8 → x < q → R.2.2 10 x = s (109 + x)) → j ≤ i → i + n = q → n < f →
    ∃ g : Nat → Int32, fn_X3_leaves_4 (some r) (Int32.ofNat k) k0 f (Int32.ofNat j) (Int32.ofNat i) (rx_set h r R) = k0 (Int32.ofNat (sp_unq k n i (j, s)).1) (rx_set h r (rx_B R 10 g)) ∧ ∀ x, x < q → g x = (sp_unq k n i (j, s)).2 (109 + x) := by
  intro n
  induction n with
  | zero =>
    intro f i j R s hq hs hj hi hf
    obtain ⟨f, rfl⟩ : ∃ g, f = g + 1 := ⟨f - 1, by omega⟩
    refine ⟨R.2.2 10, ?_, fun x hx => hs x (by omega) hx⟩
    rw [fn_X3_leaves_4]
    simp (disch := first | assumption | omega) only [rx_rc, rg_c, rg_day, rg_bares, rg_firstBare, rg_eaten, rg_queued, rg_seed, rp_c, rp_day, rp_bares, rp_firstBare, rp_eaten, rp_queued, rp_seed, rr_at, rl_at, rs_at, ra_at, rr_cloth, rl_cloth, rs_cloth, ra_cloth, rr_user, rl_user, rs_user, ra_user, rr_since, rl_since, rs_since, ra_since, rr_queue, rl_queue, rs_queue, ra_queue, rr_harm, rl_harm, rs_harm, ra_harm, rr_ruled, rl_ruled, rs_ruled, ra_ruled, px_c1r, px_cI, px_cR, px_cV, px_ckz, px_ckz0, px_ckz1, cz_leti, cz_jn]
    rw [hq, if_pos (by rw [px_le (by omega) (by omega)]; omega), rx_Bid]
    rfl
  | succ n ih =>
    intro f i j R s hq hs hj hi hf
    obtain ⟨f, rfl⟩ : ∃ g, f = g + 1 := ⟨f - 1, by omega⟩
    rw [fn_X3_leaves_4]
    simp (disch := first | assumption | omega) only [rx_rc, rg_c, rg_day, rg_bares, rg_firstBare, rg_eaten, rg_queued, rg_seed, rp_c, rp_day, rp_bares, rp_firstBare, rp_eaten, rp_queued, rp_seed, rr_at, rl_at, rs_at, ra_at, rr_cloth, rl_cloth, rs_cloth, ra_cloth, rr_user, rl_user, rs_user, ra_user, rr_since, rl_since, rs_since, ra_since, rr_queue, rl_queue, rs_queue, ra_queue, rr_harm, rl_harm, rs_harm, ra_harm, rr_ruled, rl_ruled, rs_ruled, ra_ruled, px_c1r, px_cI, px_cR, px_cV, px_ckz, px_ckz0, px_ckz1, cz_leti, cz_jn]
    rw [hq, if_neg (by rw [px_le (by omega) (by omega)]; omega), hs i (by omega) (by omega), sp_unq_step]
    by_cases e : s (109 + i) = Int32.ofNat k
    · rw [if_pos e, if_pos e]
      exact ih f (i + 1) j R s hq hs (by omega) (by omega) (by omega)
    · rw [if_neg e, if_neg e]
      obtain ⟨g, g1, g2⟩ := ih f (i + 1) (j + 1) (rx_A R 10 j (s (109 + i))) (upd s (109 + j) (s (109 + i))) (by rw [rx_A2]; exact hq) (fun x h1 h2 => by
        rw [rx_Ae]
        by_cases ex : x = j
        · subst ex; rw [px_ueq, px_ueq]
        · rw [px_une ex, px_une (by omega)]; exact hs x h1 h2) (by omega) (by omega) (by omega)
      exact ⟨g, by rw [rx_AB] at g1; exact g1, g2⟩
end RXF
