/-! THE PLAIN LAW, 14: who rules; why not -/
set_option maxRecDepth 100000
theorem sp_fold_congr {α : Type} {f g : Nat → α → α} : ∀ (n k : Nat) (a : α), (∀ j b, k ≤ j → j < k + n → f j b = g j b) → sp_fold f n k a = sp_fold g n k a := by
  intro n
  induction n with
  | zero => intro k a _; rfl
  | succ n ih =>
    intro k a h
    show sp_fold f n (k + 1) (f k a) = sp_fold g n (k + 1) (g k a)
    rw [h k a (Nat.le_refl _) (by omega)]
    exact ih (k + 1) _ (fun j b h1 h2 => h j b (by omega) (by omega))
theorem sp_fold_id {α : Type} {f : Nat → α → α} : ∀ (n k : Nat) (a : α), (∀ j b, k ≤ j → j < k + n → f j b = b) → sp_fold f n k a = a := by
  intro n
  induction n with
  | zero => intro k a _; rfl
  | succ n ih =>
    intro k a h
    show sp_fold f n (k + 1) (f k a) = a
    rw [h k a (Nat.le_refl _) (by omega)]
    exact ih (k + 1) _ (fun j b h1 h2 => h j b (by omega) (by omega))
theorem sp_coatsAt_congr {s t : Nat → Int32} {v : Int32} (hn : sp_n t 2 = sp_n s 2) (h : ∀ k, k < sp_n s 2 → (t (65 + k) = v ↔ s (65 + k) = v)) : sp_coatsAt t v = sp_coatsAt s v := by
  unfold sp_coatsAt
  rw [hn]
  refine sp_fold_congr _ _ _ fun j b h1 h2 => ?_
  have := h j (by omega)
  by_cases e : s (65 + j) = v
  · rw [if_pos e, if_pos (this.mpr e)]
  · rw [if_neg e, if_neg (fun q => e (this.mp q))]
/-- the sum of a man's seats, in the component's way -/
noncomputable def sp_sumY (s : Nat → Int32) (y x : Int32) : Int32 := sp_fold (fun j n => if (if y = 0 then sp_whoseOn s (Int32.ofNat j) else sp_holder s (Int32.ofNat j)) = x then n + s (8 + j) else n) (sp_n s 0) 0 0
theorem sp_sumY0 (s : Nat → Int32) (x : Int32) : sp_sumY s 0 x = sp_sum s x := by
  unfold sp_sumY sp_sum
  exact sp_fold_congr _ _ _ fun j b _ _ => by rw [if_pos rfl]
theorem sp_sumY1 {s : Nat → Int32} (hs : ¬ sp_coldOn s (s 62) < s 3) (x : Int32) : sp_sumY s 1 x = sp_sum s x := by
  unfold sp_sumY sp_sum
  refine sp_fold_congr _ _ _ fun j b _ _ => ?_
  have e : sp_holder s (Int32.ofNat j) = sp_whoseOn s (Int32.ofNat j) := by unfold sp_holder; rw [if_neg hs]
  rw [if_neg (show ¬ (1 : Int32) = 0 by decide), e]
theorem sp_sumYs {s : Nat → Int32} {k : Nat} (hs : sp_coldOn s (s 62) < s 3) (hk : k < 100) : sp_sumY s 1 (Int32.ofNat k) = 0 := by
  unfold sp_sumY
  refine sp_fold_id _ _ _ fun j b _ _ => ?_
  have e : sp_holder s (Int32.ofNat j) = -1 := by unfold sp_holder; rw [if_pos hs]
  rw [if_neg (show ¬ (1 : Int32) = 0 by decide), e, if_neg (fun q => px_pos (k := k) (by omega) q.symm)]
section RXE
variable {h : cz_H} {r c : Nat} {R : rx_R} {s : Nat → Int32} {nm : Nat → Int64}
theorem rm_ruler_7 {y : Int32} {k0 : Int32 → cz_H → cz_Z} (H : rx_is h r R c s nm) : ∀ (n f k : Nat) (b a : Int32), k + n = sp_n s 1 → n < f → fn_X3_ruler_7 (some r) y k0 f b a (Int32.ofNat k) (rx_set h r R) = k0 (sp_fold (fun j (a : Int32 × Int32) => if a.2 < sp_sumY s y (Int32.ofNat j) then (Int32.ofNat j, sp_sumY s y (Int32.ofNat j)) else a) n k (b, a)).1 (rx_set h r R) := by
  have H2 := H
  obtain ⟨ok, hd, hr, hC, hR⟩ := H
  have h8 := ok.2.1.2
  have h0 := ok.1.2
  have in1 : ∀ (x : Int32) (k0 : Int32 → cz_H → cz_Z), fn_X3_ruler_22 (some r) y x k0 1000 0 0 (rx_set h r R) = k0 (sp_sumY s y x) (rx_set h r R) := fun x k0 => rm_ruler_22 H2 (sp_n s 0) 1000 0 0 (Nat.zero_add _) (by omega)
  intro n
  induction n with
  | zero =>
    intro f k b a hk hf
    obtain ⟨f, rfl⟩ : ∃ g, f = g + 1 := ⟨f - 1, by omega⟩
    rw [fn_X3_ruler_7]
    simp (disch := omega) only [rx_rc, rg_c, rg_day, rg_bares, rg_firstBare, rg_eaten, rg_queued, rg_seed, rp_c, rp_day, rp_bares, rp_firstBare, rp_eaten, rp_queued, rp_seed, rr_at, rl_at, rs_at, ra_at, rr_cloth, rl_cloth, rs_cloth, ra_cloth, rr_user, rl_user, rs_user, ra_user, rr_since, rl_since, rs_since, ra_since, rr_queue, rl_queue, rs_queue, ra_queue, rr_harm, rl_harm, rs_harm, ra_harm, rr_ruled, rl_ruled, rs_ruled, ra_ruled, px_c1r, px_cI, px_cR, px_cV, px_ckz, px_ckz0, px_ckz1, cz_leti, cz_jn, rm_men hr hC]
    rw [if_pos (by rw [px_le (by omega) (by omega)]; omega)]
    rfl
  | succ n ih =>
    intro f k b a hk hf
    obtain ⟨f, rfl⟩ : ∃ g, f = g + 1 := ⟨f - 1, by omega⟩
    rw [fn_X3_ruler_7]
    simp (disch := omega) only [rx_rc, rg_c, rg_day, rg_bares, rg_firstBare, rg_eaten, rg_queued, rg_seed, rp_c, rp_day, rp_bares, rp_firstBare, rp_eaten, rp_queued, rp_seed, rr_at, rl_at, rs_at, ra_at, rr_cloth, rl_cloth, rs_cloth, ra_cloth, rr_user, rl_user, rs_user, ra_user, rr_since, rl_since, rs_since, ra_since, rr_queue, rl_queue, rs_queue, ra_queue, rr_harm, rl_harm, rs_harm, ra_harm, rr_ruled, rl_ruled, rs_ruled, ra_ruled, px_c1r, px_cI, px_cR, px_cV, px_ckz, px_ckz0, px_ckz1, cz_leti, cz_jn, rm_men hr hC, in1, ih, sp_fold]
    rw [if_neg (by rw [px_le (by omega) (by omega)]; omega)]
    split <;> rfl
theorem rm_rulerF (H : rx_is h r R c s nm) : fn_X3_ruler (some r) 0 (rx_set h r R) = some (.inl (some (cz_i (sp_rulerBy s))), rx_set h r R) := by
  have h8 := H.1.2.1.2
  rw [fn_X3_ruler]
  refine (rm_ruler_7 H (sp_n s 1) 1000 0 (-1) 0 (Nat.zero_add _) (by omega)).trans ?_
  unfold sp_rulerBy
  simp only [sp_sumY0]
theorem rm_rulerT (H : rx_is h r R c s nm) : fn_X3_ruler (some r) 1 (rx_set h r R) = some (.inl (some (cz_i (sp_ruler s))), rx_set h r R) := by
  have h8 := H.1.2.1.2
  rw [fn_X3_ruler]
  refine (rm_ruler_7 H (sp_n s 1) 1000 0 (-1) 0 (Nat.zero_add _) (by omega)).trans ?_
  unfold sp_ruler
  by_cases hs : sp_coldOn s (s 62) < s 3
  · rw [if_pos hs]
    have e : sp_fold (fun j (a : Int32 × Int32) => if a.2 < sp_sumY s 1 (Int32.ofNat j) then (Int32.ofNat j, sp_sumY s 1 (Int32.ofNat j)) else a) (sp_n s 1) 0 (-1, 0) = (-1, 0) := by
      refine sp_fold_ind (fun a : Int32 × Int32 => a = (-1, 0)) _ _ _ rfl ?_
      intro j b _ h2 hb
      rw [sp_sumYs hs (by omega), hb, if_neg (by decide)]
    rw [e]
  · rw [if_neg hs]
    unfold sp_rulerBy
    simp only [sp_sumY1 hs]
theorem rm_isWorn {k : Nat} (H : rx_is h r R c s nm) (hk : k < sp_n s 2) : fn_X3_isWorn (some r) (Int32.ofNat k) (rx_set h r R) = some (.inl (some (cz_i (if s (65 + k) < 10 then 1 else 0))), rx_set h r R) := by
  obtain ⟨ok, hd, hr, hC, hR⟩ := H
  have h8 := ok.2.2.1.2
  rw [fn_X3_isWorn]
  simp (disch := omega) only [rx_rc, rg_c, rg_day, rg_bares, rg_firstBare, rg_eaten, rg_queued, rg_seed, rp_c, rp_day, rp_bares, rp_firstBare, rp_eaten, rp_queued, rp_seed, rr_at, rl_at, rs_at, ra_at, rr_cloth, rl_cloth, rs_cloth, ra_cloth, rr_user, rl_user, rs_user, ra_user, rr_since, rl_since, rs_since, ra_since, rr_queue, rl_queue, rs_queue, ra_queue, rr_harm, rl_harm, rs_harm, ra_harm, rr_ruled, rl_ruled, rs_ruled, ra_ruled, px_c1r, px_cI, px_cR, px_cV, px_ckz, px_ckz0, px_ckz1, cz_leti, cz_jn, (hR.2.2.2.2.2.1 k hk).1]
  split
  · rename_i e
    rw [if_neg (Int32.not_lt.mpr e)]
  · rename_i e
    rw [if_pos (Int32.not_le.mp e)]
theorem rm_whyLay {k : Nat} {x : Int32} (H : rx_is h r R c s nm) (hk : k < sp_n s 2) : fn_X3_whyLay (some r) (Int32.ofNat k) x (rx_set h r R) = some (.inl (some (cz_i (sp_whyLay s k x))), rx_set h r R) := by
  have hw := rm_isWorn H hk
  obtain ⟨ok, hd, hr, hC, hR⟩ := H
  have h8 := ok.2.2.1.2
  rw [fn_X3_whyLay]
  simp (disch := omega) only [rx_rc, rg_c, rg_day, rg_bares, rg_firstBare, rg_eaten, rg_queued, rg_seed, rp_c, rp_day, rp_bares, rp_firstBare, rp_eaten, rp_queued, rp_seed, rr_at, rl_at, rs_at, ra_at, rr_cloth, rl_cloth, rs_cloth, ra_cloth, rr_user, rl_user, rs_user, ra_user, rr_since, rl_since, rs_since, ra_since, rr_queue, rl_queue, rs_queue, ra_queue, rr_harm, rl_harm, rs_harm, ra_harm, rr_ruled, rl_ruled, rs_ruled, ra_ruled, px_c1r, px_cI, px_cR, px_cV, px_ckz, px_ckz0, px_ckz1, cz_leti, cz_jn, hw, rm_on ok hr hC hR, px_e0, ite_not]
  unfold sp_whyLay
  by_cases e : s (65 + k) < 10
  · rw [if_pos e, if_neg (Int32.not_le.mpr e)]
    rcases sp_coatOn_is s x with e2 | ⟨y, h1, -, e2⟩
    · rw [e2, if_pos rfl]; rfl
    · rw [e2, if_neg (px_pos (by omega)), if_neg (px_neg (by omega))]
  · rw [if_neg e, if_pos (Int32.not_lt.mp e)]
theorem rm_whyWear {k : Nat} {x : Int32} (H : rx_is h r R c s nm) (hk : k < sp_n s 2) : fn_X3_whyWear (some r) (Int32.ofNat k) x (rx_set h r R) = some (.inl (some (cz_i (sp_whyWear s x k))), rx_set h r R) := by
  have hw := rm_isWorn H hk
  obtain ⟨ok, hd, hr, hC, hR⟩ := H
  have h8 := ok.2.2.1.2
  rw [fn_X3_whyWear]
  have q := hR.2.2.2.2.2.1 k hk
  simp (disch := omega) only [rx_rc, rg_c, rg_day, rg_bares, rg_firstBare, rg_eaten, rg_queued, rg_seed, rp_c, rp_day, rp_bares, rp_firstBare, rp_eaten, rp_queued, rp_seed, rr_at, rl_at, rs_at, ra_at, rr_cloth, rl_cloth, rs_cloth, ra_cloth, rr_user, rl_user, rs_user, ra_user, rr_since, rl_since, rs_since, ra_since, rr_queue, rl_queue, rs_queue, ra_queue, rr_harm, rl_harm, rs_harm, ra_harm, rr_ruled, rl_ruled, rs_ruled, ra_ruled, px_c1r, px_cI, px_cR, px_cV, px_ckz, px_ckz0, px_ckz1, cz_leti, cz_jn, hw, px_e0, ite_not, q.1, q.2.2.1, hr]
  rw [pc_coatM (i := k) (K := fun x23 h21 => if x23 = x then some (.inl (some (cz_i 0)), h21) else some (.inl (some (cz_i 2)), h21)) ok hC hk]
  unfold sp_whyWear
  repeat' split
  all_goals rfl
theorem rm_whyLend {k : Nat} {x : Int32} (H : rx_is h r R c s nm) (hk : k < sp_n s 2) : fn_X3_whyLend (some r) (Int32.ofNat k) x (rx_set h r R) = some (.inl (some (cz_i (sp_whyLend s k x))), rx_set h r R) := by
  obtain ⟨ok, hd, hr, hC, hR⟩ := H
  have h8 := ok.2.2.1.2
  rw [fn_X3_whyLend]
  have q := hR.2.2.2.2.2.1 k hk
  simp (disch := omega) only [rx_rc, rg_c, rg_day, rg_bares, rg_firstBare, rg_eaten, rg_queued, rg_seed, rp_c, rp_day, rp_bares, rp_firstBare, rp_eaten, rp_queued, rp_seed, rr_at, rl_at, rs_at, ra_at, rr_cloth, rl_cloth, rs_cloth, ra_cloth, rr_user, rl_user, rs_user, ra_user, rr_since, rl_since, rs_since, ra_since, rr_queue, rl_queue, rs_queue, ra_queue, rr_harm, rl_harm, rs_harm, ra_harm, rr_ruled, rl_ruled, rs_ruled, ra_ruled, px_c1r, px_cI, px_cR, px_cV, px_ckz, px_ckz0, px_ckz1, cz_leti, cz_jn, q.1, q.2.2.1]
  unfold sp_whyLend
  repeat' split
  all_goals rfl
theorem rm_whyKeep {k : Nat} (H : rx_is h r R c s nm) (hk : k < sp_n s 2) : fn_X3_whyKeep (some r) (Int32.ofNat k) (rx_set h r R) = some (.inl (some (cz_i (if s (65 + k) < 10 then 0 else 1))), rx_set h r R) := by
  have hw := rm_isWorn H hk
  rw [fn_X3_whyKeep]
  simp (disch := omega) only [rx_rc, rg_c, rg_day, rg_bares, rg_firstBare, rg_eaten, rg_queued, rg_seed, rp_c, rp_day, rp_bares, rp_firstBare, rp_eaten, rp_queued, rp_seed, rr_at, rl_at, rs_at, ra_at, rr_cloth, rl_cloth, rs_cloth, ra_cloth, rr_user, rl_user, rs_user, ra_user, rr_since, rl_since, rs_since, ra_since, rr_queue, rl_queue, rs_queue, ra_queue, rr_harm, rl_harm, rs_harm, ra_harm, rr_ruled, rl_ruled, rs_ruled, ra_ruled, px_c1r, px_cI, px_cR, px_cV, px_ckz, px_ckz0, px_ckz1, cz_leti, cz_jn, hw, px_e0, ite_not]
  split <;> rfl
end RXE
