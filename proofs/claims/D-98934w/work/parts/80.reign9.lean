/-! THE PLAIN LAW, 20: a coat that lies -/
set_option maxRecDepth 100000
theorem rx_okP_at {p p2 : Nat → Int32} {R R2 : rx_R} {s t : Nat → Int32} {k : Nat} (h8 : sp_n s 2 ≤ 8) (h6 : sp_n s 1 ≤ 6) (hR : rx_okP p R s) (hk : k < sp_n s 2) (hp : ∀ j, j ≠ k → p2 j = p j)
    (g : ∀ q, q ≠ 65 + k → q ≠ 81 + k → q ≠ 89 + k → (q < 109 ∨ 118 ≤ q) → t q = s q) (i1 : R2.2.1 1 = R.2.1 1) (i2 : R2.2.1 2 = R.2.1 2) (i3 : R2.2.1 3 = R.2.1 3) (i4 : R2.2.1 4 = sp_coatsAt t 30) (i5 : R2.2.1 5 = t 117)
    (a6 : ∀ j, j ≠ k → R2.2.2 6 j = R.2.2 6 j ∧ R2.2.2 7 j = R.2.2 7 j) (a6k : R2.2.2 6 k = t (65 + k) ∧ R2.2.2 7 k = t (81 + k)) (a8 : R2.2.2 8 = R.2.2 8) (a9 : R2.2.2 9 = R.2.2 9) (a10 : ∀ j, j < sp_n t 117 → R2.2.2 10 j = t (109 + j)) (a11 : R2.2.2 11 = R.2.2 11) (a12 : R2.2.2 12 = R.2.2 12)
    (hs : 10 ≤ t (65 + k) → t (65 + k) ≤ 17 → R.2.2 9 k = s 62 + p2 k - t (89 + k)) : rx_okP p2 R2 t := by
  obtain ⟨b1, b2, b3, b4, b5, b6, b7, b8⟩ := hR
  have e2 : sp_n t 2 = sp_n s 2 := by unfold sp_n; rw [g 2 (by omega) (by omega) (by omega) (by omega)]
  have e1 : sp_n t 1 = sp_n s 1 := by unfold sp_n; rw [g 1 (by omega) (by omega) (by omega) (by omega)]
  unfold rx_okP
  rw [e2, e1]
  refine ⟨by rw [i1, b1, g 62 (by omega) (by omega) (by omega) (by omega)], by rw [i2, b2, g 63 (by omega) (by omega) (by omega) (by omega)], by rw [i3, b3, g 64 (by omega) (by omega) (by omega) (by omega)], i4, i5, ?_, a10, ?_⟩
  · intro j hj
    obtain ⟨c1, c2, c3, c4⟩ := b6 j hj
    by_cases e : j = k
    · subst e
      rw [a8, a9, g (73 + j) (by omega) (by omega) (by omega) (by omega), g 62 (by omega) (by omega) (by omega) (by omega)]
      exact ⟨a6k.1, a6k.2, c3, hs⟩
    · rw [(a6 j e).1, (a6 j e).2, a8, a9, hp j e, g (65 + j) (by omega) (by omega) (by omega) (by omega), g (81 + j) (by omega) (by omega) (by omega) (by omega), g (73 + j) (by omega) (by omega) (by omega) (by omega), g 62 (by omega) (by omega) (by omega) (by omega), g (89 + j) (by omega) (by omega) (by omega) (by omega)]
      exact ⟨c1, c2, c3, c4⟩
  · intro j hj
    rw [a11, a12, g (97 + j) (by omega) (by omega) (by omega) (by omega), g (103 + j) (by omega) (by omega) (by omega) (by omega)]
    exact b8 j hj
/-- one coat more at a place -/
theorem sp_coatsAt_more {s t : Nat → Int32} {v : Int32} {k : Nat} (hn : sp_n t 2 = sp_n s 2) (h8 : sp_n s 2 ≤ 8) (hk : k < sp_n s 2) (hs : s (65 + k) ≠ v) (ht : t (65 + k) = v) (h : ∀ j, j < sp_n s 2 → j ≠ k → t (65 + j) = s (65 + j)) : sp_coatsAt t v = sp_coatsAt s v ||| ((1 : Int32) <<< (Int32.ofNat k &&& 31)) := by
  unfold sp_coatsAt
  rw [hn]
  have key : ∀ (n i : Nat) (a : Int32), i + n ≤ sp_n s 2 → sp_fold (fun c a => if t (65 + c) = v then a ||| ((1 : Int32) <<< (Int32.ofNat c &&& 31)) else a) n i a = if i ≤ k ∧ k < i + n then sp_fold (fun c a => if s (65 + c) = v then a ||| ((1 : Int32) <<< (Int32.ofNat c &&& 31)) else a) n i a ||| ((1 : Int32) <<< (Int32.ofNat k &&& 31)) else sp_fold (fun c a => if s (65 + c) = v then a ||| ((1 : Int32) <<< (Int32.ofNat c &&& 31)) else a) n i a := by
    have acc : ∀ (n i : Nat) (a b : Int32), sp_fold (fun c a => if s (65 + c) = v then a ||| ((1 : Int32) <<< (Int32.ofNat c &&& 31)) else a) n i (a ||| b) = sp_fold (fun c a => if s (65 + c) = v then a ||| ((1 : Int32) <<< (Int32.ofNat c &&& 31)) else a) n i a ||| b := by
      intro n
      induction n with
      | zero => intro i a b; rfl
      | succ n ih =>
        intro i a b
        simp only [sp_fold]
        split
        · rw [show a ||| b ||| (1 : Int32) <<< (Int32.ofNat i &&& 31) = a ||| (1 : Int32) <<< (Int32.ofNat i &&& 31) ||| b by rw [Int32.or_assoc, Int32.or_comm b, ← Int32.or_assoc], ih]
        · exact ih (i + 1) a b
    intro n
    induction n with
    | zero => intro i a _; rw [if_neg (by omega)]; rfl
    | succ n ih =>
      intro i a hi
      simp only [sp_fold]
      by_cases e : i = k
      · subst e
        rw [if_pos ht, if_neg hs, ih (i + 1) _ (by omega), if_neg (show ¬ (i + 1 ≤ i ∧ i < i + 1 + n) by omega), if_pos (show i ≤ i ∧ i < i + (n + 1) by omega), acc]
      · rw [h i (by omega) e, ih (i + 1) _ (by omega)]
        have cc : (i ≤ k ∧ k < i + (n + 1)) = (i + 1 ≤ k ∧ k < i + 1 + n) := propext ⟨fun q => by omega, fun q => by omega⟩
        simp only [cc]
  rw [key _ 0 0 (by omega), if_pos (show 0 ≤ k ∧ k < 0 + sp_n s 2 by omega)]
