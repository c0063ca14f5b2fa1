/-! THE PLAIN LAW, 22: what always holds of the row -/
set_option maxRecDepth 100000
/-- where a coat may be; on a seat it has lain less than it holds -/
def sp_place (s : Nat → Int32) (c : Nat) : Prop := ∃ q, s (65 + c) = Int32.ofNat q ∧ (q < 6 ∨ (10 ≤ q ∧ q ≤ 17 ∧ ∃ l, s (89 + c) = Int32.ofNat l ∧ l < sp_n s 4) ∨ q = 20 ∨ q = 30)
def sp_inv (s : Nat → Int32) : Prop := sp_oq s ∧ sp_colds s ∧ (s 4 = Int32.ofNat (sp_n s 4) ∧ sp_n s 4 ≤ 30) ∧ ∀ c, c < sp_n s 2 → sp_place s c
theorem sp_place_congr {s t : Nat → Int32} {c : Nat} (h1 : t (65 + c) = s (65 + c)) (h2 : t (89 + c) = s (89 + c)) (h4 : sp_n t 4 = sp_n s 4) (h : sp_place s c) : sp_place t c := by
  unfold sp_place at *
  rw [h1, h2, h4]
  exact h
theorem sp_seat {s : Nat → Int32} {c : Nat} (h : sp_place s c) (a : 10 ≤ s (65 + c)) (b : s (65 + c) ≤ 19) : s (65 + c) ≤ 17 ∧ ∃ l, s (89 + c) = Int32.ofNat l ∧ l < sp_n s 4 := by
  obtain ⟨q, e, hq⟩ := h
  rw [e] at a b ⊢
  rw [show (10 : Int32) = Int32.ofNat 10 from rfl, px_le (by omega) (by omega)] at a
  rw [show (19 : Int32) = Int32.ofNat 19 from rfl, px_le (by omega) (by omega)] at b
  rcases hq with hq | ⟨h1, h2, h3⟩ | hq | hq
  · omega
  · exact ⟨by rw [show (17 : Int32) = Int32.ofNat 17 from rfl, px_le (by omega) (by omega)]; exact h2, h3⟩
  · omega
  · omega
theorem sp_lying_place {s : Nat → Int32} {k j : Nat} (H : sp_inv s) (hk : k < sp_n s 2) (hj : j < sp_n s 2) (a : 10 ≤ s (65 + k)) (b : s (65 + k) ≤ 17) : sp_place (sp_lying s k) j := by
  obtain ⟨⟨ok, Q, hQ⟩, hd, ⟨hH, h30⟩, hp⟩ := H
  have h8 := ok.2.2.1.2
  have n20 : s (65 + k) ≠ 20 := fun e => by rw [e] at b; exact absurd b (by decide)
  have hl7 := hQ.len7 ok hk n20
  have g0 : ∀ q, q ≠ 81 + k → q ≠ 89 + k → sp_lying0 s k q = s q := fun q q1 q2 => by unfold sp_lying0; rw [px_une q2, px_une q1]
  have gl : sp_lying0 s k (89 + k) = s (89 + k) + 1 := by unfold sp_lying0; rw [px_ueq]
  have e4 : sp_n (sp_lying s k) 4 = sp_n s 4 := sp_lying_same.n (by omega)
  have hq0 : (sp_lying0 s k 117).toNatClampNeg = Q.length := by rw [g0 _ (by omega) (by omega), hQ.2.2.1, Int32.toNatClampNeg_ofNat_of_lt (show Q.length < 2 ^ 31 by omega)]
  have gt : ∀ q, q ≠ 65 + k → q ≠ 109 + Q.length → q ≠ 117 → sp_keeps (sp_lying0 s k) k q = sp_lying0 s k q := fun q x1 x2 x3 => by unfold sp_keeps; rw [hq0, px_une x3, px_une x2, px_une x1]
  by_cases ej : j = k
  · subst ej
    obtain ⟨q, e, hq⟩ := hp j hk
    have hb19 : s (65 + j) ≤ 19 := Int32.le_trans b (by decide)
    obtain ⟨-, l, hl, hlH⟩ := sp_seat (hp j hk) a hb19
    unfold sp_lying
    split
    · exact ⟨30, by rw [px_ueq]; rfl, by omega⟩
    · split
      · refine ⟨20, ?_, by omega⟩
        unfold sp_keeps
        rw [hq0, px_une (by omega), px_une (by omega), px_ueq]
        rfl
      · rename_i hne
        unfold sp_place
        rw [g0 (65 + j) (by omega) (by omega), gl, sp_lying0_same.n (by omega), hl, px_c1r]
        rw [hl, px_c1r, hH, px_inj (by omega) (by omega)] at hne
        refine ⟨q, e, ?_⟩
        rw [e] at a b
        rw [show (10 : Int32) = Int32.ofNat 10 from rfl] at a
        rcases hq with hq | ⟨h1, h2, -⟩ | hq | hq
        · rw [px_le (by omega) (by omega)] at a; omega
        · exact Or.inr (Or.inl ⟨h1, h2, l + 1, rfl, by omega⟩)
        · rw [hq] at b; exact absurd b (by decide)
        · rw [hq] at b; exact absurd b (by decide)
  · refine sp_place_congr ?_ ?_ e4 (hp j hj)
    · unfold sp_lying
      split
      · rw [px_une (by omega), g0 _ (by omega) (by omega)]
      · split
        · rw [gt _ (by omega) (by omega) (by omega), g0 _ (by omega) (by omega)]
        · rw [g0 _ (by omega) (by omega)]
    · unfold sp_lying
      split
      · rw [px_une (by omega), g0 _ (by omega) (by omega)]
      · split
        · rw [gt _ (by omega) (by omega) (by omega), g0 _ (by omega) (by omega)]
        · rw [g0 _ (by omega) (by omega)]
theorem sp_lying_inv {s : Nat → Int32} {k : Nat} (H : sp_inv s) (hk : k < sp_n s 2) (a : 10 ≤ s (65 + k)) (b : s (65 + k) ≤ 17) : sp_inv (sp_lying s k) := by
  have n20 : s (65 + k) ≠ 20 := fun e => by rw [e] at b; exact absurd b (by decide)
  refine ⟨sp_lying_oq H.1 hk n20, sp_colds_same H.1.1 sp_lying_same H.2.1, ?_, fun j hj => ?_⟩
  · rw [sp_lying_same.n (by omega), sp_lying_same 4 (by omega)]
    exact H.2.2.1
  · rw [sp_lying_same.n (by omega)] at hj
    exact sp_lying_place H hk hj a b
