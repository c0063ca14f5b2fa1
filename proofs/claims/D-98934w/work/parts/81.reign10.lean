/-! THE PLAIN LAW, 21: a coat that lies, on -/
set_option maxRecDepth 100000
theorem sp_max0_pos {x : Int32} (h : 0 < x) : sp_max0 x = x := if_pos (Int32.le_of_lt h)
theorem sp_max0_neg {x : Int32} (h : ¬ 0 < x) : sp_max0 x = 0 := by
  unfold sp_max0
  split
  · rename_i e
    exact Int32.le_antisymm (Int32.not_lt.mp h) e
  · rfl
section RXJ
variable {h : cz_H} {r c : Nat} {R : rx_R} {s : Nat → Int32} {nm : Nat → Int64} {p : Nat → Int32}
theorem rm_lies {k l : Nat} {Q : List Nat} (hb : h.1.1 ≤ r) (ok : sp_ok s) (hQ : sp_Q s Q) (hr : R.1 = some c) (hC : pc_Cap (rx_no h r) c s nm) (hR : rx_okP p R s) (hk : k < sp_n s 2) (h1 : 10 ≤ s (65 + k)) (h2 : s (65 + k) ≤ 17) (hp : p k = 0) (hl : s (89 + k) = Int32.ofNat l) (hH : s 4 = Int32.ofNat (sp_n s 4)) (hlH : l < sp_n s 4) (hH30 : sp_n s 4 ≤ 30) :
    ∃ R2 : rx_R, fn_X3_lies (some r) (Int32.ofNat k) (rx_set h r R) = some (.inl none, rx_set h r R2) ∧ (R2.1 = R.1 ∧ R2.2.1 13 = R.2.1 13) ∧ rx_okP (fun j => if j = k then 1 else p j) R2 (sp_lying s k) := by
  have h8 := ok.2.2.1.2
  have h6 := ok.2.1.2
  have n20 : s (65 + k) ≠ 20 := fun e => by rw [e] at h2; exact absurd h2 (by decide)
  have n30 : s (65 + k) ≠ 30 := fun e => by rw [e] at h2; exact absurd h2 (by decide)
  have hl7 := hQ.len7 ok hk n20
  obtain ⟨V, ls, lm, lc, f0, f1, g0, g1, v1, v2, v3, v4, v5, -⟩ := hC
  have v1' : ∀ R2 : rx_R, (rx_set h r R2).2.2.2 c = some (.inl (1, V)) := fun R2 => rx_no_in _ _ v1
  have hR' := hR
  obtain ⟨b1, b2, b3, b4, b5, b6, b7, b8⟩ := hR'
  obtain ⟨c1, c2, c3, c4⟩ := b6 k hk
  have c4 := c4 h1 h2
  have hq5 : R.2.1 5 = Int32.ofNat Q.length := by rw [b5, hQ.2.2.1]
  have hn117 : sp_n s 117 = Q.length := by unfold sp_n; rw [hQ.2.2.1, Int32.toNatClampNeg_ofNat_of_lt (show Q.length < 2 ^ 31 by omega)]
  have m5 : ∀ (R2 : rx_R) (kk : Int32 → cz_Z), cz_getI (rx_set h r R2) (some c) [(1, 4)] kk = kk (s 5) := fun R2 kk => pc_getI (v1' R2) v5 rfl
  have m4 : ∀ (R2 : rx_R) (kk : Int32 → cz_Z), cz_getI (rx_set h r R2) (some c) [(1, 3)] kk = kk (s 4) := fun R2 kk => pc_getI (v1' R2) v4 rfl
  have kp := rm_keep (h := h) (r := r) (R := rx_A R 7 k (s (81 + k) - s 5)) (k := k) (q := Q.length) hb (by omega) (by rw [rx_A2]; exact hq5) hl7
  rw [fn_X3_lies]
  simp (disch := first | assumption | omega) only [rx_rc, rg_c, rg_day, rg_bares, rg_firstBare, rg_eaten, rg_queued, rg_seed, rp_c, rp_day, rp_bares, rp_firstBare, rp_eaten, rp_queued, rp_seed, rr_at, rl_at, rs_at, ra_at, rr_cloth, rl_cloth, rs_cloth, ra_cloth, rr_user, rl_user, rs_user, ra_user, rr_since, rl_since, rs_since, ra_since, rr_queue, rl_queue, rs_queue, ra_queue, rr_harm, rl_harm, rs_harm, ra_harm, rr_ruled, rl_ruled, rs_ruled, ra_ruled, px_c1r, px_cI, px_cR, px_cV, px_ckz, px_ckz0, px_ckz1, cz_leti, cz_jn, rx_A1, rx_A2, hr, c2, m5, m4, rx_Ae, rx_An, px_ueq, b1, c4, hp, px_ssub, hl, kp]
  have g0 : ∀ q, q ≠ 81 + k → q ≠ 89 + k → sp_lying0 s k q = s q := fun q q1 q2 => by unfold sp_lying0; rw [px_une q2, px_une q1]
  have gk : sp_lying0 s k (81 + k) = sp_max0 (s (81 + k) - s 5) := by unfold sp_lying0; rw [px_une (by omega), px_ueq]
  have gl : sp_lying0 s k (89 + k) = Int32.ofNat (l + 1) := by unfold sp_lying0; rw [px_ueq, hl, px_c1r]
  have e2 : sp_n (sp_lying0 s k) 2 = sp_n s 2 := sp_lying0_same.n (by omega)
  by_cases hpos : 0 < s (81 + k) - s 5
  · rw [if_pos hpos]
    have hm := sp_max0_pos hpos
    have hne : ¬ sp_max0 (s (81 + k) - s 5) = 0 := by rw [hm]; intro e; rw [e] at hpos; exact absurd hpos (by decide)
    have hlt : (Int32.ofNat (l + 1) < s 4) = (l + 1 < sp_n s 4) := by rw [hH, px_lt (by omega) (by omega)]
    have heq : (s (89 + k) + 1 = s 4) = (l + 1 = sp_n s 4) := by rw [hl, px_c1r, hH, px_inj (by omega) (by omega)]
    unfold sp_lying
    rw [if_neg hne]
    by_cases hfin : l + 1 < sp_n s 4
    · rw [if_pos (by rw [hlt]; exact hfin), if_neg (by rw [heq]; omega)]
      refine ⟨_, rfl, ⟨rx_A1.trans hr, by rw [rx_A2]⟩, ?_⟩
      refine rx_okP_at h8 h6 hR hk (fun j e => if_neg e) (fun q q1 q2 q3 _ => g0 q q2 q3) (by rw [rx_A2]) (by rw [rx_A2]) (by rw [rx_A2]) ?_ ?_ ?_ ?_ (rx_An (by decide)) (rx_An (by decide)) ?_ (rx_An (by decide)) (rx_An (by decide)) ?_
      · rw [rx_A2, b4]
        exact (sp_coatsAt_congr e2 fun j hj => by rw [g0 _ (by omega) (by omega)]).symm
      · rw [rx_A2, b5, g0 _ (by omega) (by omega)]
      · intro j ej
        rw [rx_An (by decide), rx_Ae, px_une ej]
        exact ⟨rfl, rfl⟩
      · rw [rx_An (by decide), rx_Ae, px_ueq, g0 _ (by omega) (by omega), gk, hm]
        exact ⟨c1, rfl⟩
      · intro j hj
        rw [rx_An (by decide), g0 _ (by omega) (by omega)]
        refine b7 j ?_
        have : sp_n (sp_lying0 s k) 117 = sp_n s 117 := by unfold sp_n; rw [g0 _ (by omega) (by omega)]
        omega
      · intro _ _
        rw [if_pos rfl, gl, c4, hp, hl, ← px_c1r]
        grind
    · rw [if_neg (by rw [hlt]; exact hfin), if_pos (by rw [heq]; omega)]
      have hq0 : (sp_lying0 s k 117).toNatClampNeg = Q.length := by rw [g0 _ (by omega) (by omega)]; exact hn117
      have gt : ∀ q, q ≠ 65 + k → q ≠ 109 + Q.length → q ≠ 117 → sp_keeps (sp_lying0 s k) k q = sp_lying0 s k q := fun q x1 x2 x3 => by unfold sp_keeps; rw [hq0, px_une x3, px_une x2, px_une x1]
      have g65 : sp_keeps (sp_lying0 s k) k (65 + k) = 20 := by unfold sp_keeps; rw [hq0, px_une (by omega), px_une (by omega), px_ueq]
      have g109 : sp_keeps (sp_lying0 s k) k (109 + Q.length) = Int32.ofNat k := by unfold sp_keeps; rw [hq0, px_une (by omega), px_ueq]
      have g117 : sp_keeps (sp_lying0 s k) k 117 = Int32.ofNat (Q.length + 1) := by unfold sp_keeps; rw [px_ueq, g0 _ (by omega) (by omega), hQ.2.2.1, px_c1r]
      refine ⟨_, rfl, ⟨by rw [rx_I1, rx_A1, rx_A1, rx_A1, hr], by rw [rx_In (by decide), rx_A2, rx_A2, rx_A2]⟩, ?_⟩
      refine rx_okP_at h8 h6 hR hk (fun j e => if_neg e) (fun q q1 q2 q3 q4 => (gt q q1 (by omega) (by omega)).trans (g0 q q2 q3)) ?_ ?_ ?_ ?_ ?_ ?_ ?_ ?_ ?_ ?_ ?_ ?_ ?_
      · rw [rx_In (by decide), rx_A2, rx_A2, rx_A2]
      · rw [rx_In (by decide), rx_A2, rx_A2, rx_A2]
      · rw [rx_In (by decide), rx_A2, rx_A2, rx_A2]
      · rw [rx_In (by decide), rx_A2, rx_A2, rx_A2, b4]
        refine (sp_coatsAt_congr (by rw [sp_keeps_same.n (by omega)]; exact e2) fun j hj => ?_).symm
        by_cases ej : j = k
        · subst ej
          rw [g65]
          exact ⟨fun q => absurd q (by decide), fun q => absurd q n30⟩
        · rw [gt _ (by omega) (by omega) (by omega), g0 _ (by omega) (by omega)]
      · rw [rx_Ie, g117]
      · intro j ej
        rw [rx_I3, rx_An (by decide), rx_Ae, rx_An (by decide), px_une ej, rx_An (by decide), rx_An (by decide), rx_Ae, px_une ej]
        exact ⟨rfl, rfl⟩
      · rw [rx_I3, rx_An (by decide), rx_Ae, rx_An (by decide), px_ueq, rx_An (by decide), rx_An (by decide), rx_Ae, px_ueq, g65, gt _ (by omega) (by omega) (by omega), gk, hm]
        exact ⟨rfl, rfl⟩
      · rw [rx_I3, rx_An (by decide), rx_An (by decide), rx_An (by decide)]
      · rw [rx_I3, rx_An (by decide), rx_An (by decide), rx_An (by decide)]
      · intro j hj
        have ej : sp_n (sp_keeps (sp_lying0 s k) k) 117 = Q.length + 1 := by unfold sp_n; rw [g117, Int32.toNatClampNeg_ofNat_of_lt (show Q.length + 1 < 2 ^ 31 by omega)]
        rw [rx_I3, rx_Ae, rx_An (by decide), rx_An (by decide)]
        by_cases e : j = Q.length
        · subst e
          rw [px_ueq, g109]
        · rw [px_une e, b7 j (by omega), gt _ (by omega) (by omega) (by omega), g0 _ (by omega) (by omega)]
      · rw [rx_I3, rx_An (by decide), rx_An (by decide), rx_An (by decide)]
      · rw [rx_I3, rx_An (by decide), rx_An (by decide), rx_An (by decide)]
      · intro _ q
        rw [g65] at q
        exact absurd q (by decide)
  · rw [if_neg hpos]
    have hm := sp_max0_neg hpos
    unfold sp_lying
    rw [if_pos hm]
    refine ⟨_, rfl, ⟨by rw [rx_I1, rx_A1, rx_A1, rx_A1, hr], by rw [rx_In (by decide), rx_A2, rx_A2, rx_A2]⟩, ?_⟩
    refine rx_okP_at h8 h6 hR hk (fun j e => if_neg e) (fun q q1 q2 q3 q4 => (px_une q1).trans (g0 q q2 q3)) ?_ ?_ ?_ ?_ ?_ ?_ ?_ ?_ ?_ ?_ ?_ ?_ ?_
    · rw [rx_In (by decide), rx_A2, rx_A2, rx_A2]
    · rw [rx_In (by decide), rx_A2, rx_A2, rx_A2]
    · rw [rx_In (by decide), rx_A2, rx_A2, rx_A2]
    · rw [rx_Ie, b4]
      refine (sp_coatsAt_more (by rw [sp_n_upd (by omega)]; exact e2) h8 hk n30 px_ueq fun j hj ej => ?_).symm
      rw [px_une (by omega), g0 _ (by omega) (by omega)]
    · rw [rx_In (by decide), rx_A2, rx_A2, rx_A2, b5, px_une (by omega), g0 _ (by omega) (by omega)]
    · intro j ej
      rw [rx_I3, rx_Ae, rx_An (by decide), rx_An (by decide), px_une ej, rx_An (by decide), rx_Ae, px_une ej, rx_Ae, px_une ej]
      exact ⟨rfl, rfl⟩
    · rw [rx_I3, rx_Ae, px_ueq, rx_An (by decide), rx_Ae, px_ueq, px_ueq, px_une (by omega), gk, hm]
      exact ⟨rfl, rfl⟩
    · rw [rx_I3, rx_An (by decide), rx_An (by decide), rx_An (by decide)]
    · rw [rx_I3, rx_An (by decide), rx_An (by decide), rx_An (by decide)]
    · intro j hj
      rw [sp_n_upd (by omega)] at hj
      have ej : sp_n (sp_lying0 s k) 117 = sp_n s 117 := by unfold sp_n; rw [g0 _ (by omega) (by omega)]
      rw [rx_I3, rx_An (by decide), rx_An (by decide), rx_An (by decide), b7 j (by omega), px_une (by omega), g0 _ (by omega) (by omega)]
    · rw [rx_I3, rx_An (by decide), rx_An (by decide), rx_An (by decide)]
    · rw [rx_I3, rx_An (by decide), rx_An (by decide), rx_An (by decide)]
    · intro _ q
      rw [px_ueq] at q
      exact absurd q (by decide)
end RXJ
