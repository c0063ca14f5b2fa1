/-! THE PLAIN LAW, 28: what always holds, and stays so by what is done -/
set_option maxRecDepth 100000
/-- all that always holds of the row -/
def sp_full (s : Nat → Int32) : Prop := sp_inv s ∧ sp_dayIn s ∧ 1 ≤ sp_n s 4 ∧ ∀ c, c < sp_n s 2 → ∃ o, s (22 + c) = Int32.ofNat o ∧ o < sp_n s 1
theorem sp_full.next {s t : Nat → Int32} (F : sp_full s) (hs : sp_same s t) (oq : sp_oq t) (hd : sp_dayIn t) (hp : ∀ c, c < sp_n s 2 → sp_place t c) : sp_full t := by
  obtain ⟨H, -, h4, ho⟩ := F
  have h8 := H.1.1.2.2.1.2
  refine ⟨⟨oq, sp_colds_same H.1.1 hs H.2.1, ?_, fun c hc => hp c (by rw [← hs.n (by omega)]; exact hc)⟩, hd, by rw [hs.n (by omega)]; exact h4, fun c hc => ?_⟩
  · rw [hs.n (by omega), hs 4 (by omega)]; exact H.2.2.1
  · rw [hs.n (by omega)] at hc
    rw [hs (22 + c) (by omega), hs.n (by omega)]
    exact ho c hc
theorem sp_dayIn_eq {s t : Nat → Int32} (e : t 62 = s 62) (h : sp_dayIn s) : sp_dayIn t := by
  unfold sp_dayIn at *
  rw [e]; exact h
theorem sp_full_day {s : Nat → Int32} (F : sp_full s) (hd : s 62 ≠ 400) : sp_full (sp_day s) := by
  obtain ⟨d, e, h4⟩ := F.2.1
  refine F.next (sp_day_oq F.1.1).2 (sp_day_oq F.1.1).1 ⟨d + 1, by rw [sp_day_62 F.1, e, px_c1r], ?_⟩ (fun c hc => (sp_day_inv F.1).2.2.2 c (by rw [(sp_day_oq F.1.1).2.n (by omega)]; exact hc))
  have : d ≠ 400 := fun q => hd (by rw [e, q]; rfl)
  omega
theorem sp_day400 {s : Nat → Int32} (h : sp_dayIn s) : (400 ≤ s 62) = (s 62 = 400) := by
  obtain ⟨d, e, h4⟩ := h
  rw [e, show (400 : Int32) = Int32.ofNat 400 from rfl, px_le (by omega) (by omega), px_inj (by omega) (by omega)]
  exact propext ⟨fun q => by omega, fun q => by omega⟩
theorem sp_full_goes : ∀ (n k : Nat) (s : Nat → Int32), sp_full s → sp_full (sp_goes n k s).2 := by
  intro n
  induction n with
  | zero => intro k s F; exact F
  | succ n ih =>
    intro k s F
    rw [sp_goes]
    split
    · exact F
    · rename_i e
      rw [sp_day400 F.2.1] at e
      exact ih _ _ (sp_full_day F e)
theorem sp_full_lays {s : Nat → Int32} {k y : Nat} (F : sp_full s) (hk : k < sp_n s 2) (hy : y < 8) (hw : s (65 + k) ≠ 20) : sp_full (sp_lays s k (Int32.ofNat y)) := by
  have h8 := F.1.1.1.2.2.1.2
  obtain ⟨ok, Q, hQ⟩ := F.1.1
  have g : ∀ q, q ≠ 65 + k → q ≠ 89 + k → sp_lays s k (Int32.ofNat y) q = s q := fun q h1 h2 => by unfold sp_lays; rw [px_une h2, px_une h1]
  have hs : sp_same s (sp_lays s k (Int32.ofNat y)) := fun q hq => g q (by omega) (by omega)
  have e10 : (10 : Int32) + Int32.ofNat y = Int32.ofNat (10 + y) := (Int32.ofNat_add 10 y).symm
  refine F.next hs ⟨hs.ok ok, Q, ?_⟩ (sp_dayIn_eq (g 62 (by omega) (by omega)) F.2.1) (fun c hc => ?_)
  · have q1 := sp_Qat (v := 10 + Int32.ofNat y) hQ ok hk hw (by rw [e10]; exact px_small (q := 20) (by omega) (by decide) (by omega))
    exact sp_Qupd q1 (sp_ok_upd ok (by omega)) (by omega) (by omega) (by omega)
  · by_cases e : c = k
    · subst e
      refine ⟨10 + y, ?_, Or.inr (Or.inl ⟨by omega, by omega, 0, ?_, by rw [hs.n (by omega)]; exact F.2.2.1⟩)⟩
      · unfold sp_lays; rw [px_une (by omega), px_ueq, e10]
      · unfold sp_lays; rw [px_ueq]; rfl
    · exact sp_place_congr (g _ (by omega) (by omega)) (g _ (by omega) (by omega)) (hs.n (by omega)) (F.1.2.2.2 c hc)
theorem sp_full_keeps {s : Nat → Int32} {k : Nat} (F : sp_full s) (hk : k < sp_n s 2) (hw : s (65 + k) ≠ 20) : sp_full (sp_keeps s k) := by
  have h8 := F.1.1.1.2.2.1.2
  obtain ⟨ok, Q, hQ⟩ := F.1.1
  have hl := hQ.len7 ok hk hw
  have hq : (s 117).toNatClampNeg = Q.length := by rw [hQ.2.2.1, Int32.toNatClampNeg_ofNat_of_lt (show Q.length < 2 ^ 31 by omega)]
  have g : ∀ q, q ≠ 65 + k → q ≠ 109 + Q.length → q ≠ 117 → sp_keeps s k q = s q := fun q h1 h2 h3 => by unfold sp_keeps; rw [hq, px_une h3, px_une h2, px_une h1]
  refine F.next sp_keeps_same ⟨sp_keeps_same.ok ok, _, sp_Qkeeps hQ ok hk hw⟩ (sp_dayIn_eq (g 62 (by omega) (by omega) (by omega)) F.2.1) (fun c hc => ?_)
  by_cases e : c = k
  · subst e
    exact ⟨20, by unfold sp_keeps; rw [hq, px_une (by omega), px_une (by omega), px_ueq]; rfl, by omega⟩
  · exact sp_place_congr (g _ (by omega) (by omega) (by omega)) (g _ (by omega) (by omega) (by omega)) (sp_keeps_same.n (by omega)) (F.1.2.2.2 c hc)
theorem sp_full_wears {s : Nat → Int32} {k y : Nat} (F : sp_full s) (hk : k < sp_n s 2) (hy : y < 6) : sp_full (sp_wears s (Int32.ofNat y) k) ∧ sp_same s (sp_wears s (Int32.ofNat y) k) := by
  have h8 := F.1.1.1.2.2.1.2
  obtain ⟨ok, Q, hQ⟩ := F.1.1
  obtain ⟨q1, g⟩ := sp_Qwears (x := Int32.ofNat y) hQ ok hk (px_small (q := 20) (by omega) (by decide) (by omega))
  have hs : sp_same s (sp_wears s (Int32.ofNat y) k) := fun q hq => g q (by omega) (by omega)
  refine ⟨F.next hs ⟨hs.ok ok, _, q1⟩ (sp_dayIn_eq (g 62 (by omega) (by omega)) F.2.1) (fun c hc => ?_), hs⟩
  by_cases e : c = k
  · subst e
    exact ⟨y, by unfold sp_wears; rw [px_ueq], by omega⟩
  · exact sp_place_congr (g _ (by omega) (by omega)) (g _ (by omega) (by omega)) (hs.n (by omega)) (F.1.2.2.2 c hc)
theorem sp_full_lend {s : Nat → Int32} {k : Nat} {v : Int32} (F : sp_full s) (hk : k < sp_n s 2) : sp_full (upd s (73 + k) v) := by
  have h8 := F.1.1.1.2.2.1.2
  obtain ⟨ok, Q, hQ⟩ := F.1.1
  refine F.next (sp_same_upd (by omega)) ⟨sp_ok_upd ok (by omega), Q, sp_Qupd hQ ok (by omega) (by omega) (by omega)⟩ (sp_dayIn_eq (px_une (by omega)) F.2.1) (fun c hc => ?_)
  exact sp_place_congr (px_une (by omega)) (px_une (by omega)) (sp_n_upd (by omega)) (F.1.2.2.2 c hc)
/-- worn: not in the room -/
theorem sp_lt10 {x : Int32} (h : x < 10) : x ≠ 20 ∧ x ≠ 30 := ⟨fun e => by rw [e] at h; exact absurd h (by decide), fun e => by rw [e] at h; exact absurd h (by decide)⟩
theorem sp_whyLay0 {s : Nat → Int32} {c : Nat} {x : Int32} (h : sp_whyLay s c x = 0) : s (65 + c) < 10 := by
  unfold sp_whyLay at h
  split at h
  · cases h
  · rename_i e
    exact Int32.not_le.mp e
theorem sp_whyWear0 {s : Nat → Int32} {c : Nat} {x : Int32} (h : sp_whyWear s x c = 0) : ¬ s (65 + c) < 10 ∧ s (65 + c) ≠ 30 := by
  unfold sp_whyWear at h
  split at h
  · cases h
  · rename_i e
    split at h
    · cases h
    · rename_i e2
      exact ⟨e, e2⟩
/-- an act: 0 a coat lies, 1 one wears it, 2 it is lent, 3 kept, 4 days -/
def sp_actIn (s : Nat → Int32) (w k n : Nat) : Prop := (w = 0 ∧ k < sp_n s 2 ∧ n < sp_n s 0) ∨ (w = 1 ∧ k < sp_n s 1 ∧ n < sp_n s 2) ∨ (w = 2 ∧ k < sp_n s 2 ∧ n < sp_n s 1) ∨ (w = 3 ∧ k < sp_n s 2) ∨ (w = 4 ∧ 1 ≤ k ∧ k ≤ 60)
noncomputable def sp_does (w k n : Nat) (s : Nat → Int32) : Int32 × (Nat → Int32) :=
  if w = 0 then (sp_whyLay s k (Int32.ofNat n), if sp_whyLay s k (Int32.ofNat n) = 0 then sp_lays s k (Int32.ofNat n) else s)
  else if w = 1 then (if sp_whyWear s (Int32.ofNat k) n = 0 then (0, sp_wears s (Int32.ofNat k) n) else (10 + sp_whyWear s (Int32.ofNat k) n, s))
  else if w = 2 then (if sp_whyLend s k (Int32.ofNat n) = 0 then (0, upd s (73 + k) (Int32.ofNat n)) else (20 + sp_whyLend s k (Int32.ofNat n), s))
  else if w = 3 then (if s (65 + k) < 10 then (0, sp_keeps s k) else (31, s))
  else if s 62 + Int32.ofNat k ≤ 400 then (0, (sp_goes k 0 s).2) else (41, s)
theorem sp_actIn.same {s t : Nat → Int32} (h : sp_same s t) {w k n : Nat} (a : sp_actIn s w k n) : sp_actIn t w k n := by
  unfold sp_actIn at *
  rw [h.n (show 0 < 62 by omega), h.n (show 1 < 62 by omega), h.n (show 2 < 62 by omega)]
  exact a
theorem sp_does_full {s : Nat → Int32} {w k n : Nat} (F : sp_full s) (a : sp_actIn s w k n) : sp_full (sp_does w k n s).2 ∧ sp_same s (sp_does w k n s).2 := by
  have h0 := F.1.1.1.1.2
  have h1 := F.1.1.1.2.1.2
  have h8 := F.1.1.1.2.2.1.2
  unfold sp_does
  rcases a with ⟨rfl, a1, a2⟩ | ⟨rfl, a1, a2⟩ | ⟨rfl, a1, a2⟩ | ⟨rfl, a1⟩ | ⟨rfl, a1, a2⟩
  · rw [if_pos rfl]
    dsimp only
    split
    · rename_i e
      exact ⟨sp_full_lays F a1 (by omega) (sp_lt10 (sp_whyLay0 e)).1, fun q hq => by unfold sp_lays; rw [px_une (by omega), px_une (by omega)]⟩
    · exact ⟨F, sp_same.rf⟩
  · rw [if_neg (by decide), if_pos rfl]
    split
    · exact sp_full_wears F a2 (by omega)
    · exact ⟨F, sp_same.rf⟩
  · rw [if_neg (by decide), if_neg (by decide), if_pos rfl]
    split
    · exact ⟨sp_full_lend F a1, sp_same_upd (by omega)⟩
    · exact ⟨F, sp_same.rf⟩
  · rw [if_neg (by decide), if_neg (by decide), if_neg (by decide), if_pos rfl]
    split
    · rename_i e
      exact ⟨sp_full_keeps F a1 (sp_lt10 e).1, sp_keeps_same⟩
    · exact ⟨F, sp_same.rf⟩
  · rw [if_neg (by decide), if_neg (by decide), if_neg (by decide), if_neg (by decide)]
    split
    · exact ⟨sp_full_goes _ _ _ F, (sp_goes_oq _ _ _ F.1.1).2⟩
    · exact ⟨F, sp_same.rf⟩
