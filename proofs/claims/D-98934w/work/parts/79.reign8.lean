/-! THE PLAIN LAW, 19: in the midst of a day -/
set_option maxRecDepth 100000
theorem px_ssub (a b : Int32) : a - (a + 0 - b) = b := by grind
/-- the Reign R is the one of the row s, where coat k's days are told p k ahead -/
def rx_okP (p : Nat → Int32) (R : rx_R) (s : Nat → Int32) : Prop := R.2.1 1 = s 62 ∧ R.2.1 2 = s 63 ∧ R.2.1 3 = s 64 - 1 ∧ R.2.1 4 = sp_coatsAt s 30 ∧ R.2.1 5 = s 117 ∧
  (∀ k, k < sp_n s 2 → R.2.2 6 k = s (65 + k) ∧ R.2.2 7 k = s (81 + k) ∧ R.2.2 8 k = s (73 + k) ∧ (10 ≤ s (65 + k) → s (65 + k) ≤ 17 → R.2.2 9 k = s 62 + p k - s (89 + k))) ∧
  (∀ k, k < sp_n s 117 → R.2.2 10 k = s (109 + k)) ∧ ∀ k, k < sp_n s 1 → R.2.2 11 k = s (97 + k) ∧ R.2.2 12 k = s (103 + k)
theorem rx_okP.of {R : rx_R} {s : Nat → Int32} (h : rx_ok R s) : rx_okP (fun _ => 0) R s := by
  obtain ⟨a1, a2, a3, a4, a5, a6, a7, a8⟩ := h
  refine ⟨a1, a2, a3, a4, a5, fun k hk => ?_, a7, a8⟩
  obtain ⟨b1, b2, b3, b4⟩ := a6 k hk
  exact ⟨b1, b2, b3, fun q1 q2 => by rw [Int32.add_zero]; exact b4 q1 q2⟩
theorem rx_okP.day {p : Nat → Int32} {R : rx_R} {s : Nat → Int32} (h8 : sp_n s 2 ≤ 8) (h6 : sp_n s 1 ≤ 6) (h : rx_okP p R s) (hp : ∀ k, k < sp_n s 2 → p k = 1) : rx_ok (rx_I R 1 (R.2.1 1 + 1)) (upd s 62 (s 62 + 1)) := by
  obtain ⟨a1, a2, a3, a4, a5, a6, a7, a8⟩ := h
  unfold rx_ok
  rw [rx_Ie, rx_In (by decide), rx_In (by decide), rx_In (by decide), rx_In (by decide), rx_I3, sp_n_upd (by omega), sp_n_upd (by omega), sp_n_upd (by omega), px_ueq, px_une (by omega), px_une (by omega), px_une (by omega), a1]
  refine ⟨rfl, a2, a3, ?_, a5, fun k hk => ?_, fun k hk => ?_, fun k hk => ?_⟩
  · rw [a4]
    refine (sp_coatsAt_congr (sp_n_upd (by omega)) fun j hj => ?_).symm
    rw [px_une (by omega)]
  · obtain ⟨b1, b2, b3, b4⟩ := a6 k hk
    rw [px_une (by omega), px_une (by omega), px_une (by omega), px_une (by omega)]
    refine ⟨b1, b2, b3, fun q1 q2 => ?_⟩
    rw [b4 q1 q2, hp k hk]
  · rw [px_une (by omega)]; exact a7 k hk
  · rw [px_une (by omega), px_une (by omega)]; exact a8 k hk
