/-! THE PLAIN LAW, 24: a Reign's day, whole -/
set_option maxRecDepth 100000
theorem sp_inv_num {s t : Nat → Int32} (H : sp_inv s) (oq : sp_oq t) (g : ∀ q, q < 62 ∨ (65 ≤ q ∧ q < 97) ∨ 109 ≤ q → t q = s q) : sp_inv t := by
  have hs : sp_same s t := fun q hq => g q (by omega)
  have h8 := H.1.1.2.2.1.2
  refine ⟨oq, sp_colds_same H.1.1 hs H.2.1, ?_, fun j hj => ?_⟩
  · rw [hs.n (by omega), hs 4 (by omega)]
    exact H.2.2.1
  · rw [hs.n (by omega)] at hj
    exact sp_place_congr (g _ (by omega)) (g _ (by omega)) (hs.n (by omega)) (H.2.2.2 j hj)
theorem sp_noon_inv {s : Nat → Int32} (H : sp_inv s) : sp_inv (sp_noon s) := by
  refine sp_inv_num H (sp_noon_oq H.1) fun q hq => ?_
  have hr := sp_ruler_lt H.1.1
  unfold sp_noon
  split
  · split
    · rw [px_une (by omega), px_une (by omega)]
    · rw [px_une (by omega)]
  · rw [px_une (by omega)]
theorem sp_harms_num {s : Nat → Int32} (n k : Nat) (hk : k + n ≤ 6) : ∀ q, q < 97 ∨ 103 ≤ q → sp_harms n k s q = s q := by
  refine sp_fold_ind (fun t => ∀ q, q < 97 ∨ 103 ≤ q → t q = s q) n k s (fun _ _ => rfl) ?_
  intro j b h1 h2 hb q hq
  rw [px_une (by omega)]
  exact hb q hq
theorem sp_lies_inv {s : Nat → Int32} (n k : Nat) (hk : k + n ≤ sp_n s 2) (H : sp_inv s) : sp_inv (sp_lies n k s) := by
  have := sp_fold_ind (f := fun k s => if 10 ≤ s (65 + k) ∧ s (65 + k) ≤ 17 then sp_lying s k else s) (fun t => sp_inv t ∧ sp_same s t) n k s ⟨H, sp_same.rf⟩ (by
    intro j b h1 h2 ⟨hb, hs⟩
    split
    · rename_i hi
      exact ⟨sp_lying_inv hb (by rw [hs.n (by omega)]; omega) hi.1 hi.2, hs.tr sp_lying_same⟩
    · exact ⟨hb, hs⟩)
  exact this.1
theorem sp_day3_inv {s : Nat → Int32} (H : sp_inv s) : sp_inv (sp_day3 s) := by
  have h6 := H.1.1.2.1.2
  have a1 := sp_noon_inv H
  have a2 : sp_inv (sp_harms (sp_n s 1) 0 (sp_noon s)) := sp_inv_num a1 (sp_harms_oq _ 0 (by omega) a1.1).1 fun q hq => sp_harms_num _ 0 (by omega) q (by omega)
  refine sp_lies_inv _ 0 ?_ a2
  rw [(sp_noon_same.tr (sp_harms_oq _ 0 (by omega) a1.1).2).n (by omega)]
  omega
theorem sp_day_inv {s : Nat → Int32} (H : sp_inv s) : sp_inv (sp_day s) := sp_inv_num (sp_day3_inv H) (sp_day_oq H.1).1 fun q hq => px_une (by omega)
section RXL
variable {h : cz_H} {r c : Nat} {R : rx_R} {s : Nat → Int32} {nm : Nat → Int64}
theorem rm_pass (hb : h.1.1 ≤ r) (H : sp_inv s) (hr : R.1 = some c) (hC : pc_Cap (rx_no h r) c s nm) (hR : rx_ok R s) (hd : s 62 ≠ 400) : ∃ R2 : rx_R, fn_X3_pass (some r) (rx_set h r R) = some (.inl (some (cz_i 1)), rx_set h r R2) ∧ (R2.1 = some c ∧ R2.2.1 13 = R.2.1 13) ∧ rx_ok R2 (sp_day s) := by
  have h6 := H.1.1.2.1.2
  have h8 := H.1.1.2.2.1.2
  have Hon : rx_on h r R c s nm := ⟨H.1, H.2.1, hr, hC, hR⟩
  obtain ⟨R1, r1, r2, r3⟩ := rm_noon hb Hon.is
  have Hon1 : rx_on h r R1 c (sp_noon s) nm := Hon.next sp_noon_same (sp_noon_oq H.1) r2.1 r3
  obtain ⟨R2, t1, t2, t3⟩ := rm_pass_15 (k0 := fun (h47 : cz_H) => fn_X3_pass_57 (some r) (fun (h69 : cz_H) => cz_getI h69 (some r) [(3, 1)] (fun x70 => cz_put h69 (some r) [(3, 1)] (cz_i (x70 + 1)) (fun h71 => some (.inl (some (cz_i 1)), h71)))) 1000 0 h47) (N := sp_n s 1) hb (sp_n s 1) 1000 0 R1 (sp_noon s) Hon1 (sp_noon_same.n (by omega)) (Nat.zero_add _) (by omega)
  have a1 := sp_noon_inv H
  have a2 : sp_inv (sp_harms (sp_n s 1) 0 (sp_noon s)) := sp_inv_num a1 (sp_harms_oq _ 0 (by omega) a1.1).1 fun q hq => sp_harms_num _ 0 (by omega) q (by omega)
  have hs2 := sp_noon_same.tr (sp_harms_oq (s := sp_noon s) (sp_n s 1) 0 (by omega) a1.1).2
  obtain ⟨R3, u1, u2, u3⟩ := rm_pass_57 (k0 := fun (h69 : cz_H) => cz_getI h69 (some r) [(3, 1)] (fun x70 => cz_put h69 (some r) [(3, 1)] (cz_i (x70 + 1)) (fun h71 => some (.inl (some (cz_i 1)), h71)))) (N := sp_n s 2) hb (sp_n s 2) 1000 0 R2 _ a2 (t2.1.trans (r2.1.trans hr)) (hC.same H.1.1 hs2) (by
    have := rx_okP.of t3
    obtain ⟨x1, x2, x3, x4, x5, x6, x7, x8⟩ := this
    refine ⟨x1, x2, x3, x4, x5, fun k hk => ?_, x7, x8⟩
    obtain ⟨y1, y2, y3, y4⟩ := x6 k hk
    exact ⟨y1, y2, y3, fun q1 q2 => by dsimp only; rw [if_neg (Nat.not_lt_zero k)]; exact y4 q1 q2⟩) (hs2.n (by omega)) (Nat.zero_add _) (by omega)
  have e2 : sp_n (sp_day3 s) 2 = sp_n s 2 := (sp_day3_oq H.1).2.n (by omega)
  have e1 : sp_n (sp_day3 s) 1 = sp_n s 1 := (sp_day3_oq H.1).2.n (by omega)
  refine ⟨rx_I R3 1 (R3.2.1 1 + 1), ?_, ⟨rx_I1.trans u2.1, (rx_In (by decide)).trans (u2.2.trans (t2.2.trans r2.2))⟩, ?_⟩
  · rw [fn_X3_pass, fn_X3_isOver]
    simp (disch := first | assumption | omega) only [rx_rc, rg_c, rg_day, rg_bares, rg_firstBare, rg_eaten, rg_queued, rg_seed, rp_c, rp_day, rp_bares, rp_firstBare, rp_eaten, rp_queued, rp_seed, rr_at, rl_at, rs_at, ra_at, rr_cloth, rl_cloth, rs_cloth, ra_cloth, rr_user, rl_user, rs_user, ra_user, rr_since, rl_since, rs_since, ra_since, rr_queue, rl_queue, rs_queue, ra_queue, rr_harm, rl_harm, rs_harm, ra_harm, rr_ruled, rl_ruled, rs_ruled, ra_ruled, px_c1r, px_cI, px_cR, px_cV, px_ckz, px_ckz0, px_ckz1, cz_leti, cz_jn, hR.1]
    rw [if_neg hd, px_cI, if_pos rfl, rx_rc, r1, px_cV]
    refine t1.trans (u1.trans ?_)
    rw [rg_day, rp_day hb]
  · exact rx_okP.day (by rw [e2]; exact h8) (by rw [e1]; exact h6) u3 (fun k hk => if_pos (by rw [e2] at hk; exact hk))
end RXL
