/-! THE PLAIN LAW, 4: the queue -/
set_option maxRecDepth 100000
theorem sp_nodup_le : ∀ (n : Nat) (Q : List Nat), Q.Nodup → (∀ c ∈ Q, c < n) → Q.length ≤ n := by
  intro n
  induction n with
  | zero =>
    intro Q _ h
    cases Q with
    | nil => exact Nat.le_refl _
    | cons a l => exact absurd (h a List.mem_cons_self) (Nat.not_lt_zero a)
  | succ n ih =>
    intro Q hn h
    have h1 := ih (Q.erase n) (hn.erase n) (fun c hc => by
      have := (List.Nodup.mem_erase_iff hn).mp hc
      have := h c this.2
      omega)
    rw [List.length_erase] at h1
    split at h1 <;> omega
/-- Q is the queue of the row s -/
def sp_Q (s : Nat → Int32) (Q : List Nat) : Prop := Q.Nodup ∧ (∀ c ∈ Q, c < sp_n s 2) ∧ s 117 = Int32.ofNat Q.length ∧ (∀ i, i < Q.length → s (109 + i) = Int32.ofNat (Q.getD i 0)) ∧ ∀ c, c < sp_n s 2 → (c ∈ Q ↔ s (65 + c) = 20)
theorem sp_Q.len {s : Nat → Int32} {Q : List Nat} (h : sp_Q s Q) (ok : sp_ok s) : Q.length ≤ 8 := Nat.le_trans (sp_nodup_le _ Q h.1 h.2.1) ok.2.2.1.2
theorem sp_Q.len7 {s : Nat → Int32} {Q : List Nat} {c : Nat} (h : sp_Q s Q) (ok : sp_ok s) (hc : c < sp_n s 2) (hn : s (65 + c) ≠ 20) : Q.length < 8 := by
  have h9 : (c :: Q).length ≤ sp_n s 2 := sp_nodup_le _ (c :: Q) (List.nodup_cons.mpr ⟨fun q => hn ((h.2.2.2.2 c hc).mp q), h.1⟩) (fun x hx => by
    rcases List.mem_cons.mp hx with e | e
    · rw [e]; exact hc
    · exact h.2.1 x e)
  have := ok.2.2.1.2
  rw [List.length_cons] at h9
  omega
theorem sp_Qupd {s : Nat → Int32} {Q : List Nat} {j : Nat} {v : Int32} (h : sp_Q s Q) (ok : sp_ok s) (h2 : j ≠ 2) (h3 : j < 65 ∨ 73 ≤ j) (h4 : j < 109 ∨ 118 ≤ j) : sp_Q (upd s j v) Q := by
  have hl := h.len ok
  obtain ⟨q1, q2, q3, q4, q5⟩ := h
  have e2 : sp_n (upd s j v) 2 = sp_n s 2 := by unfold sp_n; rw [px_une (by omega)]
  refine ⟨q1, by rw [e2]; exact q2, by rw [px_une (by omega)]; exact q3, fun i hi => by rw [px_une (by omega)]; exact q4 i hi, fun c hc => ?_⟩
  rw [e2] at hc
  have := ok.2.2.1.2
  rw [px_une (by omega)]
  exact q5 c hc
theorem sp_n_upd {s : Nat → Int32} {i j : Nat} {v : Int32} (h : i ≠ j) : sp_n (upd s j v) i = sp_n s i := by unfold sp_n; rw [px_une h]
/-- a coat that isn't in the room moves, not into it -/
theorem sp_Qat {s : Nat → Int32} {Q : List Nat} {c : Nat} {v : Int32} (h : sp_Q s Q) (ok : sp_ok s) (hc : c < sp_n s 2) (hn : s (65 + c) ≠ 20) (hv : v ≠ 20) : sp_Q (upd s (65 + c) v) Q := by
  have hl := h.len ok
  have h8 := ok.2.2.1.2
  obtain ⟨q1, q2, q3, q4, q5⟩ := h
  refine ⟨q1, by rw [sp_n_upd (by omega)]; exact q2, by rw [px_une (by omega)]; exact q3, fun i hi => by rw [px_une (by omega)]; exact q4 i hi, fun x hx => ?_⟩
  rw [sp_n_upd (by omega)] at hx
  by_cases e : x = c
  · subst e
    rw [px_ueq]
    exact ⟨fun q => absurd ((q5 x hx).mp q) hn, fun q => absurd q hv⟩
  · rw [px_une (by omega)]
    exact q5 x hx
theorem sp_Qkeeps {s : Nat → Int32} {Q : List Nat} {c : Nat} (h : sp_Q s Q) (ok : sp_ok s) (hc : c < sp_n s 2) (hn : s (65 + c) ≠ 20) : sp_Q (sp_keeps s c) (Q ++ [c]) := by
  have hl := h.len7 ok hc hn
  have h8 := ok.2.2.1.2
  obtain ⟨q1, q2, q3, q4, q5⟩ := h
  have hq : (s 117).toNatClampNeg = Q.length := by rw [q3, Int32.toNatClampNeg_ofNat_of_lt (show Q.length < 2 ^ 31 by omega)]
  have e2 : sp_n (sp_keeps s c) 2 = sp_n s 2 := by unfold sp_keeps; rw [hq, sp_n_upd (by omega), sp_n_upd (by omega), sp_n_upd (by omega)]
  have hcQ : c ∉ Q := fun q => hn ((q5 c hc).mp q)
  refine ⟨?_, ?_, ?_, ?_, ?_⟩
  · rw [List.nodup_append]
    refine ⟨q1, by simp, fun a ha b hb e => ?_⟩
    rw [List.mem_singleton.mp hb] at e
    rw [e] at ha
    exact hcQ ha
  · intro x hx
    rw [e2]
    rcases List.mem_append.mp hx with e | e
    · exact q2 x e
    · rw [List.mem_singleton.mp e]; exact hc
  · unfold sp_keeps
    rw [px_ueq, q3, px_c1r, List.length_append]
    rfl
  · intro i hi
    rw [List.length_append, List.length_singleton] at hi
    unfold sp_keeps
    rw [hq, px_une (by omega)]
    by_cases e : i = Q.length
    · subst e
      rw [px_ueq, List.getD_eq_getElem?_getD, List.getElem?_append_right (Nat.le_refl _), Nat.sub_self]
      rfl
    · rw [px_une (by omega), px_une (by omega), List.getD_eq_getElem?_getD, List.getElem?_append_left (by omega), ← List.getD_eq_getElem?_getD]
      exact q4 i (by omega)
  · intro x hx
    rw [e2] at hx
    unfold sp_keeps
    rw [hq, px_une (by omega), px_une (by omega)]
    by_cases e : x = c
    · subst e
      rw [px_ueq]
      simp
    · rw [px_une (by omega), ← q5 x hx]
      simp [e]
theorem sp_unq_step (c n k : Nat) (a : Nat × (Nat → Int32)) : sp_unq c (n + 1) k a = sp_unq c n (k + 1) (if a.2 (109 + k) = Int32.ofNat c then a else (a.1 + 1, upd a.2 (109 + a.1) (a.2 (109 + k)))) := rfl
theorem px_inj {a b : Nat} (ha : a < 2147483648) (hb : b < 2147483648) : (Int32.ofNat a = Int32.ofNat b) = (a = b) := by
  apply propext
  constructor
  · intro e
    have := congrArg Int32.toNatClampNeg e
    rw [Int32.toNatClampNeg_ofNat_of_lt ha, Int32.toNatClampNeg_ofNat_of_lt hb] at this
    exact this
  · intro e; rw [e]
/-- the queue without c, place by place -/
theorem sp_unq_is (c : Nat) (hc : c < 8) : ∀ (R : List Nat) (k j : Nat) (s : Nat → Int32), (∀ x ∈ R, x < 8) → j ≤ k → (∀ i, i < R.length → s (109 + k + i) = Int32.ofNat (R.getD i 0)) →
    (sp_unq c R.length k (j, s)).1 = j + (R.filter (fun x => decide (x ≠ c))).length ∧ (∀ q, q < 109 + j ∨ 109 + k + R.length ≤ q → (sp_unq c R.length k (j, s)).2 q = s q) ∧
    ∀ i, i < (R.filter (fun x => decide (x ≠ c))).length → (sp_unq c R.length k (j, s)).2 (109 + j + i) = Int32.ofNat ((R.filter (fun x => decide (x ≠ c))).getD i 0) := by
  intro R
  induction R with
  | nil => intro k j s _ _ _; exact ⟨rfl, fun _ _ => rfl, fun i hi => absurd hi (Nat.not_lt_zero i)⟩
  | cons x R ih =>
    intro k j s h8 hj hs
    have h0 : s (109 + k) = Int32.ofNat x := hs 0 (Nat.zero_lt_succ _)
    have hx := h8 x List.mem_cons_self
    have hR : ∀ y ∈ R, y < 8 := fun y hy => h8 y (List.mem_cons_of_mem _ hy)
    rw [List.length_cons, sp_unq_step]
    dsimp only
    by_cases e : x = c
    · rw [if_pos (by rw [h0, e]), List.filter_cons_of_neg (by simp [e])]
      obtain ⟨i1, i2, i3⟩ := ih (k + 1) j s hR (by omega) (fun i hi => by
        have := hs (i + 1) (by rw [List.length_cons]; omega)
        rw [show 109 + (k + 1) + i = 109 + k + (i + 1) by omega, this]
        rfl)
      exact ⟨i1, fun q hq => i2 q (by omega), i3⟩
    · rw [if_neg (by rw [h0, px_inj (by omega) (by omega)]; exact e), h0, List.filter_cons_of_pos (by simp [e])]
      obtain ⟨i1, i2, i3⟩ := ih (k + 1) (j + 1) (upd s (109 + j) (Int32.ofNat x)) hR (by omega) (fun i hi => by
        have := hs (i + 1) (by rw [List.length_cons]; omega)
        rw [px_une (by omega), show 109 + (k + 1) + i = 109 + k + (i + 1) by omega, this]
        rfl)
      refine ⟨by rw [i1, List.length_cons]; omega, fun q hq => by rw [i2 q (by omega), px_une (by omega)], fun i hi => ?_⟩
      cases i with
      | zero =>
        rw [i2 (109 + j + 0) (by omega), Nat.add_zero, px_ueq]
        rfl
      | succ i =>
        rw [show 109 + j + (i + 1) = 109 + (j + 1) + i by omega, i3 i (by rw [List.length_cons] at hi; omega)]
        rfl
theorem sp_Qwears {s : Nat → Int32} {Q : List Nat} {c : Nat} {x : Int32} (h : sp_Q s Q) (ok : sp_ok s) (hc : c < sp_n s 2) (hx : x ≠ 20) : sp_Q (sp_wears s x c) (Q.filter (fun y => decide (y ≠ c))) ∧ ∀ q, q ≠ 65 + c → (q < 109 ∨ 118 ≤ q) → sp_wears s x c q = s q := by
  have hl := h.len ok
  have h8 := ok.2.2.1.2
  have h' := h
  obtain ⟨q1, q2, q3, q4, q5⟩ := h'
  unfold sp_wears
  by_cases e20 : s (65 + c) = 20
  · rw [if_pos e20]
    have hq : (s 117).toNatClampNeg = Q.length := by rw [q3, Int32.toNatClampNeg_ofNat_of_lt (show Q.length < 2 ^ 31 by omega)]
    obtain ⟨u1, u2, u3⟩ := sp_unq_is c (by omega) Q 0 0 s (fun y hy => by have := q2 y hy; omega) (Nat.le_refl _) (fun i hi => q4 i hi)
    unfold sp_unqueues
    rw [hq]
    generalize hU : sp_unq c Q.length 0 (0, s) = U at u1 u2 u3 ⊢
    have hlt : (Q.filter (fun y => decide (y ≠ c))).length < Q.length ∨ (Q.filter (fun y => decide (y ≠ c))).length ≤ 7 := by
      left
      have hm : c ∈ Q := (q5 c hc).mpr e20
      rw [← List.countP_eq_length_filter]
      refine Nat.lt_of_le_of_ne List.countP_le_length fun e => ?_
      have := List.countP_eq_length.mp e c hm
      simp at this
    have hl2 : (Q.filter (fun y => decide (y ≠ c))).length ≤ 7 := by omega
    have u1 : U.1 = (Q.filter (fun y => decide (y ≠ c))).length := by rw [u1]; omega
    have e2 : ∀ v : Int32, sp_n (upd (upd (upd U.2 117 (Int32.ofNat U.1)) (109 + U.1) 0) (65 + c) v) 2 = sp_n s 2 := by
      intro v
      rw [sp_n_upd (by omega), sp_n_upd (by omega), sp_n_upd (by omega)]
      unfold sp_n
      rw [u2 2 (by omega)]
    refine ⟨⟨q1.filter _, ?_, ?_, ?_, ?_⟩, ?_⟩
    · intro y hy
      rw [e2]
      exact q2 y (List.mem_filter.mp hy).1
    · rw [px_une (by omega), px_une (by omega), px_ueq, u1]
    · intro i hi
      rw [px_une (by omega), px_une (by omega), px_une (by omega)]
      have := u3 i hi
      rw [Nat.add_zero] at this
      exact this
    · intro y hy
      rw [e2] at hy
      by_cases e : y = c
      · subst e
        rw [px_ueq]
        constructor
        · intro hm
          have := (List.mem_filter.mp hm).2
          simp at this
        · intro q; exact absurd q hx
      · rw [px_une (by omega), px_une (by omega), px_une (by omega), u2 (65 + y) (by omega), ← q5 y hy]
        simp [List.mem_filter, e]
    · intro q hq1 hq2
      rw [px_une (by omega), px_une (by omega), px_une (by omega), u2 q (by omega)]
  · rw [if_neg e20]
    have hf : Q.filter (fun y => decide (y ≠ c)) = Q := List.filter_eq_self.mpr (fun y hy => by
      have : y ≠ c := fun e => by rw [e] at hy; exact e20 ((q5 c hc).mp hy)
      simp [this])
    rw [hf]
    exact ⟨sp_Qat h ok hc e20 hx, fun q hq _ => px_une hq⟩
