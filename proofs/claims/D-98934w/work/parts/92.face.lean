/-! THE PLAIN LAW, 32: the face as one pure state (printed by wip/D-98934w/gen/pure5.py) -/
set_option maxRecDepth 100000
/-- ints by field; refs (0 capital, 1 sentence, 2 3 the kept capitals, 4 5 the kept sentences); arrays (0 tape, 1 told); the array 'before'; the Reigns (0 now, 1 trial, 2 3 kept, 4.. before) -/
abbrev cx_X : Type := (Nat → Int32) × (Nat → Option Nat) × (Nat → Nat → Int32) × (Nat → Option Nat) × (Nat → rx_R)
def cx_I (X : cx_X) (j : Nat) (v : Int32) : cx_X := (fun q => if q = j then v else X.1 q, X.2)
def cx_F (X : cx_X) (j : Nat) (v : Option Nat) : cx_X := (X.1, fun q => if q = j then v else X.2.1 q, X.2.2)
def cx_A (X : cx_X) (j i : Nat) (v : Int32) : cx_X := (X.1, X.2.1, fun q => if q = j then upd (X.2.2.1 j) i v else X.2.2.1 q, X.2.2.2)
def cx_E (X : cx_X) (g : Nat → Option Nat) : cx_X := (X.1, X.2.1, X.2.2.1, g, X.2.2.2.2)
def cx_G (X : cx_X) (i : Nat) (R : rx_R) : cx_X := (X.1, X.2.1, X.2.2.1, X.2.2.2.1, fun q => if q = i then R else X.2.2.2.2 q)
def cx_o (i : Nat) : Nat := if i = 0 then 8 else if i = 1 then 16 else if i = 2 then 28 else if i = 3 then 37 else 45 + 8 * (i - 4)
def cx_i (d : Nat) : Nat := if d < 16 then 0 else if d < 24 then 1 else if d < 36 then 2 else if d < 45 then 3 else 4 + (d - 45) / 8
def cx_fld (x : Nat) (X : cx_X) (j : Nat) : cz_v := if j = 0 then cz_r (some (x + 1)) else if j = 3 then cz_r (X.2.1 0) else if j = 4 then cz_r (some (x + 8)) else if j = 5 then cz_r (some (x + 16)) else if j = 6 then cz_r (X.2.1 1) else if j = 7 then cz_r (some (x + 24)) else if j = 16 then cz_r (some (x + 25)) else if j = 17 then cz_r (some (x + 26)) else cz_i (X.1 j)
/-- a Kept's fields -/
def cx_kf (c e : Option Nat) (r : Nat) (j : Nat) : cz_v := if j = 0 then cz_r c else if j = 1 then cz_r e else cz_r (some r)
def cx_cell (x : Nat) (X : cx_X) (d : Nat) : Option cz_C :=
  if d = 0 then some (.inl (0, cx_fld x X)) else if d = 1 then some (.inr (1, 940, .inl (X.2.2.1 0))) else if d = 24 then some (.inr (5, 8, cz_qa X.2.2.2.1)) else if d = 25 then some (.inr (0, 4, .inl (X.2.2.1 1))) else
  if d = 26 then some (.inr (6, 2, cz_qa (va_up (va_up (fun _ => none) 0 (some (x + 27))) 1 (some (x + 36))))) else
  if d = 27 then some (.inl (4, cx_kf (X.2.1 2) (X.2.1 4) (x + 28))) else if d = 36 then some (.inl (4, cx_kf (X.2.1 3) (X.2.1 5) (x + 37))) else if d < 8 then none else some (rx_cell (x + cx_o (cx_i d)) (X.2.2.2.2 (cx_i d)) (d - cx_o (cx_i d)))
def cx_get (x : Nat) (X : cx_X) (F : Nat → Option cz_C) (q : Nat) : Option cz_C := if x ≤ q ∧ q < x + 109 then (if 2 ≤ q - x ∧ q - x < 8 then F q else cx_cell x X (q - x)) else F q
def cx_set (h : cz_H) (x : Nat) (X : cx_X) : cz_H := (h.1, h.2.1, h.2.2.1, cx_get x X h.2.2.2)
theorem cx_at (h : cz_H) (x : Nat) (X : cx_X) {d : Nat} (hd : d < 2 ∨ (8 ≤ d ∧ d < 109)) : (cx_set h x X).2.2.2 (x + d) = cx_cell x X d := by
  show cx_get x X h.2.2.2 (x + d) = _
  unfold cx_get
  rw [if_pos (by omega), Nat.add_sub_cancel_left, if_neg (by omega)]
theorem cx_at0 (h : cz_H) (x : Nat) (X : cx_X) : (cx_set h x X).2.2.2 x = some (.inl (0, cx_fld x X)) := cx_at h x X (d := 0) (by omega)
theorem cx_out (h : cz_H) (x : Nat) (X : cx_X) {q : Nat} (hq : q < x ∨ x + 109 ≤ q ∨ (x + 2 ≤ q ∧ q < x + 8)) : (cx_set h x X).2.2.2 q = h.2.2.2 q := by
  show cx_get x X h.2.2.2 q = _
  unfold cx_get
  split
  · rw [if_pos (by omega)]
  · rfl
theorem cx_put (h : cz_H) (x : Nat) (X X2 : cx_X) {d : Nat} (hd : d < 2 ∨ (8 ≤ d ∧ d < 109)) {c : cz_C} (hx : cx_cell x X2 d = some c) (he : ∀ q, q ≠ d → cx_cell x X q = cx_cell x X2 q) : cz_set (cx_set h x X) (x + d) c = cx_set h x X2 := by
  unfold cz_set cx_set
  refine Prod.ext rfl (Prod.ext rfl (Prod.ext rfl ?_))
  funext q
  dsimp only
  unfold cx_get
  by_cases hq : q = x + d
  · subst hq
    rw [if_pos rfl, if_pos (by omega), Nat.add_sub_cancel_left, if_neg (by omega), hx]
  · rw [if_neg hq]
    by_cases hm : x ≤ q ∧ q < x + 109
    · rw [if_pos hm, if_pos hm, he (q - x) (by omega)]
    · rw [if_neg hm, if_neg hm]
theorem cx_slot {i : Nat} (hi : i < 12) {k : Nat} (hk : k < 8) : cx_i (cx_o i + k) = i ∧ 8 ≤ cx_o i + k ∧ cx_o i + k < 109 ∧ cx_o i + k ≠ 24 ∧ cx_o i + k ≠ 25 ∧ cx_o i + k ≠ 26 ∧ cx_o i + k ≠ 27 ∧ cx_o i + k ≠ 36 := by
  match i, hi with
  | 0, _ =>
    have e : cx_o 0 = 8 := rfl
    rw [e]
    unfold cx_i
    rw [if_pos (by omega)]
    omega
  | 1, _ =>
    have e : cx_o 1 = 16 := rfl
    rw [e]
    unfold cx_i
    rw [if_neg (by omega), if_pos (by omega)]
    omega
  | 2, _ =>
    have e : cx_o 2 = 28 := rfl
    rw [e]
    unfold cx_i
    rw [if_neg (by omega), if_neg (by omega), if_pos (by omega)]
    omega
  | 3, _ =>
    have e : cx_o 3 = 37 := rfl
    rw [e]
    unfold cx_i
    rw [if_neg (by omega), if_neg (by omega), if_neg (by omega), if_pos (by omega)]
    omega
  | i + 4, hi =>
    have e : cx_o (i + 4) = 45 + 8 * i := by unfold cx_o; rw [if_neg (by omega), if_neg (by omega), if_neg (by omega), if_neg (by omega)]; rfl
    rw [e]
    unfold cx_i
    rw [if_neg (by omega), if_neg (by omega), if_neg (by omega), if_neg (by omega)]
    omega
theorem cx_slot_of {d : Nat} (h8 : 8 ≤ d) (h9 : d < 109) (h4 : d ≠ 24) (h5 : d ≠ 25) (h6 : d ≠ 26) (h7 : d ≠ 27) (h36 : d ≠ 36) : cx_i d < 12 ∧ cx_o (cx_i d) ≤ d ∧ d < cx_o (cx_i d) + 8 := by
  unfold cx_i
  by_cases a : d < 16
  · rw [if_pos a]; simp only [cx_o]; simp; omega
  · by_cases b : d < 24
    · rw [if_neg a, if_pos b]; simp only [cx_o]; simp; omega
    · by_cases c : d < 36
      · rw [if_neg a, if_neg b, if_pos c]; simp only [cx_o]; simp; omega
      · by_cases e : d < 45
        · rw [if_neg a, if_neg b, if_neg c, if_pos e]; simp only [cx_o]; simp; omega
        · rw [if_neg a, if_neg b, if_neg c, if_neg e]
          unfold cx_o
          rw [if_neg (by omega), if_neg (by omega), if_neg (by omega), if_neg (by omega)]
          omega
theorem cx_reign (x : Nat) (X : cx_X) {i : Nat} (hi : i < 12) {k : Nat} (hk : k < 8) : cx_cell x X (cx_o i + k) = some (rx_cell (x + cx_o i) (X.2.2.2.2 i) k) := by
  obtain ⟨a, b, c, d4, d5, d6, d7, d36⟩ := cx_slot hi hk
  unfold cx_cell
  rw [if_neg (by omega), if_neg (by omega), if_neg d4, if_neg d5, if_neg d6, if_neg d7, if_neg d36, if_neg (by omega), a, Nat.add_sub_cancel_left]
/-- a Reign of the face -/
theorem cx_rin (h : cz_H) (x : Nat) (X : cx_X) {i : Nat} (hi : i < 12) : rx_in (cx_set h x X) (x + cx_o i) (X.2.2.2.2 i) := by
  intro k hk
  obtain ⟨a, b, c, -⟩ := cx_slot hi hk
  rw [Nat.add_assoc, cx_at h x X (by omega), cx_reign x X hi hk]
theorem cx_rid (h : cz_H) (x : Nat) (X : cx_X) {i : Nat} (hi : i < 12) : rx_set (cx_set h x X) (x + cx_o i) (X.2.2.2.2 i) = cx_set h x X := (cx_rin h x X hi).eq
theorem cx_rx (h : cz_H) (x : Nat) (X : cx_X) {i : Nat} (hi : i < 12) (R : rx_R) : rx_set (cx_set h x X) (x + cx_o i) R = cx_set h x (cx_G X i R) := by
  obtain ⟨-, b0, c0, -⟩ := cx_slot hi (k := 0) (by omega)
  obtain ⟨-, b7, c7, -⟩ := cx_slot hi (k := 7) (by omega)
  unfold rx_set
  refine Prod.ext rfl (Prod.ext rfl (Prod.ext rfl ?_))
  funext q
  dsimp only
  by_cases hq : x + cx_o i ≤ q ∧ q < x + cx_o i + 8
  · rw [if_pos hq]
    obtain ⟨k, rfl⟩ : ∃ k, q = x + (cx_o i + k) := ⟨q - (x + cx_o i), by omega⟩
    rw [cx_at h x (cx_G X i R) (by omega), cx_reign x _ hi (by omega)]
    show _ = some (rx_cell (x + cx_o i) (if i = i then R else X.2.2.2.2 i) k)
    rw [if_pos rfl, show x + (cx_o i + k) - (x + cx_o i) = k by omega]
  · rw [if_neg hq]
    show cx_get x X h.2.2.2 q = cx_get x (cx_G X i R) h.2.2.2 q
    unfold cx_get
    by_cases hm : x ≤ q ∧ q < x + 109
    · rw [if_pos hm, if_pos hm]
      by_cases h2 : 2 ≤ q - x ∧ q - x < 8
      · rw [if_pos h2, if_pos h2]
      · rw [if_neg h2, if_neg h2]
        unfold cx_cell
        by_cases hs : q - x = 0 ∨ q - x = 1 ∨ q - x = 24 ∨ q - x = 25 ∨ q - x = 26 ∨ q - x = 27 ∨ q - x = 36
        · rcases hs with e | e | e | e | e | e | e <;> rw [e] <;> rfl
        · have hne : ¬ cx_i (q - x) = i := by
            obtain ⟨u1, u2, u3⟩ := cx_slot_of (d := q - x) (by omega) (by omega) (by omega) (by omega) (by omega) (by omega) (by omega)
            intro e
            rw [e] at u2 u3
            omega
          have eg : (cx_G X i R).2.2.2.2 (cx_i (q - x)) = X.2.2.2.2 (cx_i (q - x)) := if_neg hne
          rw [eg]
          rfl
    · rw [if_neg hm, if_neg hm]
theorem cx_id {h : cz_H} {x : Nat} {X : cx_X} (e : ∀ d, (d < 2 ∨ (8 ≤ d ∧ d < 109)) → h.2.2.2 (x + d) = cx_cell x X d) : cx_set h x X = h := by
  unfold cx_set
  refine Prod.ext rfl (Prod.ext rfl (Prod.ext rfl ?_))
  funext q
  dsimp only
  unfold cx_get
  split
  · split
    · rfl
    · have := e (q - x) (by omega)
      rw [show x + (q - x) = q by omega] at this
      exact this.symm
  · rfl
theorem cx_new (h : cz_H) (x : Nat) (X : cx_X) (hn : x + 109 ≤ h.2.1) (c : cz_C) (n : Nat) : cz_new (cx_set h x X) c n = cx_set (cz_new h c n) x X := by
  unfold cz_new cx_set
  refine Prod.ext rfl (Prod.ext rfl (Prod.ext rfl ?_))
  funext q
  dsimp only
  unfold cx_get
  by_cases hq : q = h.2.1
  · rw [if_pos hq, if_neg (by omega)]
    exact (if_pos hq).symm
  · rw [if_neg hq]
    have e : (fun q => if q = h.2.1 then some c else h.2.2.2 q) q = h.2.2.2 q := if_neg hq
    rw [e]
section CXA
variable {h : cz_H} {x : Nat} {X : cx_X}
theorem cx_rc {z : cz_Z} : cz_rc (cx_set h x X) (some x) [0] z = z := pc_rc (cx_at0 h x X) (by decide)
theorem cx_rrc {i : Nat} {z : cz_Z} (hi : i < 12) : cz_rc (cx_set h x X) (some (x + cx_o i)) [3] z = z := pc_rc (V := rx_fld (x + cx_o i) (X.2.2.2.2 i)) (cx_rin h x X hi 0 (by omega)) (by decide)
theorem cg_taped {kk : Int32 → cz_Z} : cz_getI (cx_set h x X) (some x) [(0, 1)] kk = kk (X.1 1) := pc_getI (cx_at0 h x X) (j := 1) rfl rfl
theorem cg_fault {kk : Int32 → cz_Z} : cz_getI (cx_set h x X) (some x) [(0, 2)] kk = kk (X.1 2) := pc_getI (cx_at0 h x X) (j := 2) rfl rfl
theorem cg_befores {kk : Int32 → cz_Z} : cz_getI (cx_set h x X) (some x) [(0, 8)] kk = kk (X.1 8) := pc_getI (cx_at0 h x X) (j := 8) rfl rfl
theorem cg_laid {kk : Int32 → cz_Z} : cz_getI (cx_set h x X) (some x) [(0, 9)] kk = kk (X.1 9) := pc_getI (cx_at0 h x X) (j := 9) rfl rfl
theorem cg_turns {kk : Int32 → cz_Z} : cz_getI (cx_set h x X) (some x) [(0, 10)] kk = kk (X.1 10) := pc_getI (cx_at0 h x X) (j := 10) rfl rfl
theorem cg_wins {kk : Int32 → cz_Z} : cz_getI (cx_set h x X) (some x) [(0, 11)] kk = kk (X.1 11) := pc_getI (cx_at0 h x X) (j := 11) rfl rfl
theorem cg_gives {kk : Int32 → cz_Z} : cz_getI (cx_set h x X) (some x) [(0, 12)] kk = kk (X.1 12) := pc_getI (cx_at0 h x X) (j := 12) rfl rfl
theorem cg_surely {kk : Int32 → cz_Z} : cz_getI (cx_set h x X) (some x) [(0, 13)] kk = kk (X.1 13) := pc_getI (cx_at0 h x X) (j := 13) rfl rfl
theorem cg_never {kk : Int32 → cz_Z} : cz_getI (cx_set h x X) (some x) [(0, 14)] kk = kk (X.1 14) := pc_getI (cx_at0 h x X) (j := 14) rfl rfl
theorem cg_price {kk : Int32 → cz_Z} : cz_getI (cx_set h x X) (some x) [(0, 15)] kk = kk (X.1 15) := pc_getI (cx_at0 h x X) (j := 15) rfl rfl
theorem cg_tape {kk : Option Nat → cz_Z} : cz_getR (cx_set h x X) (some x) [(0, 0)] kk = kk (some (x + 1)) := pc_getR (cx_at0 h x X) (j := 0) rfl rfl
theorem cg_capital {kk : Option Nat → cz_Z} : cz_getR (cx_set h x X) (some x) [(0, 3)] kk = kk (X.2.1 0) := pc_getR (cx_at0 h x X) (j := 3) rfl rfl
theorem cg_now {kk : Option Nat → cz_Z} : cz_getR (cx_set h x X) (some x) [(0, 4)] kk = kk (some (x + 8)) := pc_getR (cx_at0 h x X) (j := 4) rfl rfl
theorem cg_trial {kk : Option Nat → cz_Z} : cz_getR (cx_set h x X) (some x) [(0, 5)] kk = kk (some (x + 16)) := pc_getR (cx_at0 h x X) (j := 5) rfl rfl
theorem cg_sentence {kk : Option Nat → cz_Z} : cz_getR (cx_set h x X) (some x) [(0, 6)] kk = kk (X.2.1 1) := pc_getR (cx_at0 h x X) (j := 6) rfl rfl
theorem cg_before {kk : Option Nat → cz_Z} : cz_getR (cx_set h x X) (some x) [(0, 7)] kk = kk (some (x + 24)) := pc_getR (cx_at0 h x X) (j := 7) rfl rfl
theorem cg_told {kk : Option Nat → cz_Z} : cz_getR (cx_set h x X) (some x) [(0, 16)] kk = kk (some (x + 25)) := pc_getR (cx_at0 h x X) (j := 16) rfl rfl
theorem cg_kept {kk : Option Nat → cz_Z} : cz_getR (cx_set h x X) (some x) [(0, 17)] kk = kk (some (x + 26)) := pc_getR (cx_at0 h x X) (j := 17) rfl rfl
theorem cp_taped {v : Int32} {kk : cz_H → cz_Z} (hb : h.1.1 ≤ x) : cz_put (cx_set h x X) (some x) [(0, 1)] (cz_i v) kk = kk (cx_set h x (cx_I X 1 v)) := by
  unfold cz_put
  dsimp only
  rw [cx_at0]
  show (if h.1.1 ≤ x then kk (cz_set (cx_set h x X) (x + 0) _) else none) = _
  rw [if_pos hb, cx_put h x X (cx_I X 1 v) (d := 0) (by omega)]
  · show some (Sum.inl (0, cx_fld x (cx_I X 1 v))) = _
    congr 2
    refine Prod.ext rfl ?_
    funext q
    dsimp only
    by_cases hq : q = 1
    · subst hq
      rw [if_pos rfl]
      simp [cx_fld, cx_I, cx_F]
    · rw [if_neg hq]
      simp [cx_fld, cx_I, cx_F, hq]
  · intro q hq
    unfold cx_cell
    rw [if_neg hq, if_neg hq]
    rfl
theorem cp_fault {v : Int32} {kk : cz_H → cz_Z} (hb : h.1.1 ≤ x) : cz_put (cx_set h x X) (some x) [(0, 2)] (cz_i v) kk = kk (cx_set h x (cx_I X 2 v)) := by
  unfold cz_put
  dsimp only
  rw [cx_at0]
  show (if h.1.1 ≤ x then kk (cz_set (cx_set h x X) (x + 0) _) else none) = _
  rw [if_pos hb, cx_put h x X (cx_I X 2 v) (d := 0) (by omega)]
  · show some (Sum.inl (0, cx_fld x (cx_I X 2 v))) = _
    congr 2
    refine Prod.ext rfl ?_
    funext q
    dsimp only
    by_cases hq : q = 2
    · subst hq
      rw [if_pos rfl]
      simp [cx_fld, cx_I, cx_F]
    · rw [if_neg hq]
      simp [cx_fld, cx_I, cx_F, hq]
  · intro q hq
    unfold cx_cell
    rw [if_neg hq, if_neg hq]
    rfl
theorem cp_befores {v : Int32} {kk : cz_H → cz_Z} (hb : h.1.1 ≤ x) : cz_put (cx_set h x X) (some x) [(0, 8)] (cz_i v) kk = kk (cx_set h x (cx_I X 8 v)) := by
  unfold cz_put
  dsimp only
  rw [cx_at0]
  show (if h.1.1 ≤ x then kk (cz_set (cx_set h x X) (x + 0) _) else none) = _
  rw [if_pos hb, cx_put h x X (cx_I X 8 v) (d := 0) (by omega)]
  · show some (Sum.inl (0, cx_fld x (cx_I X 8 v))) = _
    congr 2
    refine Prod.ext rfl ?_
    funext q
    dsimp only
    by_cases hq : q = 8
    · subst hq
      rw [if_pos rfl]
      simp [cx_fld, cx_I, cx_F]
    · rw [if_neg hq]
      simp [cx_fld, cx_I, cx_F, hq]
  · intro q hq
    unfold cx_cell
    rw [if_neg hq, if_neg hq]
    rfl
theorem cp_laid {v : Int32} {kk : cz_H → cz_Z} (hb : h.1.1 ≤ x) : cz_put (cx_set h x X) (some x) [(0, 9)] (cz_i v) kk = kk (cx_set h x (cx_I X 9 v)) := by
  unfold cz_put
  dsimp only
  rw [cx_at0]
  show (if h.1.1 ≤ x then kk (cz_set (cx_set h x X) (x + 0) _) else none) = _
  rw [if_pos hb, cx_put h x X (cx_I X 9 v) (d := 0) (by omega)]
  · show some (Sum.inl (0, cx_fld x (cx_I X 9 v))) = _
    congr 2
    refine Prod.ext rfl ?_
    funext q
    dsimp only
    by_cases hq : q = 9
    · subst hq
      rw [if_pos rfl]
      simp [cx_fld, cx_I, cx_F]
    · rw [if_neg hq]
      simp [cx_fld, cx_I, cx_F, hq]
  · intro q hq
    unfold cx_cell
    rw [if_neg hq, if_neg hq]
    rfl
theorem cp_turns {v : Int32} {kk : cz_H → cz_Z} (hb : h.1.1 ≤ x) : cz_put (cx_set h x X) (some x) [(0, 10)] (cz_i v) kk = kk (cx_set h x (cx_I X 10 v)) := by
  unfold cz_put
  dsimp only
  rw [cx_at0]
  show (if h.1.1 ≤ x then kk (cz_set (cx_set h x X) (x + 0) _) else none) = _
  rw [if_pos hb, cx_put h x X (cx_I X 10 v) (d := 0) (by omega)]
  · show some (Sum.inl (0, cx_fld x (cx_I X 10 v))) = _
    congr 2
    refine Prod.ext rfl ?_
    funext q
    dsimp only
    by_cases hq : q = 10
    · subst hq
      rw [if_pos rfl]
      simp [cx_fld, cx_I, cx_F]
    · rw [if_neg hq]
      simp [cx_fld, cx_I, cx_F, hq]
  · intro q hq
    unfold cx_cell
    rw [if_neg hq, if_neg hq]
    rfl
theorem cp_wins {v : Int32} {kk : cz_H → cz_Z} (hb : h.1.1 ≤ x) : cz_put (cx_set h x X) (some x) [(0, 11)] (cz_i v) kk = kk (cx_set h x (cx_I X 11 v)) := by
  unfold cz_put
  dsimp only
  rw [cx_at0]
  show (if h.1.1 ≤ x then kk (cz_set (cx_set h x X) (x + 0) _) else none) = _
  rw [if_pos hb, cx_put h x X (cx_I X 11 v) (d := 0) (by omega)]
  · show some (Sum.inl (0, cx_fld x (cx_I X 11 v))) = _
    congr 2
    refine Prod.ext rfl ?_
    funext q
    dsimp only
    by_cases hq : q = 11
    · subst hq
      rw [if_pos rfl]
      simp [cx_fld, cx_I, cx_F]
    · rw [if_neg hq]
      simp [cx_fld, cx_I, cx_F, hq]
  · intro q hq
    unfold cx_cell
    rw [if_neg hq, if_neg hq]
    rfl
theorem cp_gives {v : Int32} {kk : cz_H → cz_Z} (hb : h.1.1 ≤ x) : cz_put (cx_set h x X) (some x) [(0, 12)] (cz_i v) kk = kk (cx_set h x (cx_I X 12 v)) := by
  unfold cz_put
  dsimp only
  rw [cx_at0]
  show (if h.1.1 ≤ x then kk (cz_set (cx_set h x X) (x + 0) _) else none) = _
  rw [if_pos hb, cx_put h x X (cx_I X 12 v) (d := 0) (by omega)]
  · show some (Sum.inl (0, cx_fld x (cx_I X 12 v))) = _
    congr 2
    refine Prod.ext rfl ?_
    funext q
    dsimp only
    by_cases hq : q = 12
    · subst hq
      rw [if_pos rfl]
      simp [cx_fld, cx_I, cx_F]
    · rw [if_neg hq]
      simp [cx_fld, cx_I, cx_F, hq]
  · intro q hq
    unfold cx_cell
    rw [if_neg hq, if_neg hq]
    rfl
theorem cp_surely {v : Int32} {kk : cz_H → cz_Z} (hb : h.1.1 ≤ x) : cz_put (cx_set h x X) (some x) [(0, 13)] (cz_i v) kk = kk (cx_set h x (cx_I X 13 v)) := by
  unfold cz_put
  dsimp only
  rw [cx_at0]
  show (if h.1.1 ≤ x then kk (cz_set (cx_set h x X) (x + 0) _) else none) = _
  rw [if_pos hb, cx_put h x X (cx_I X 13 v) (d := 0) (by omega)]
  · show some (Sum.inl (0, cx_fld x (cx_I X 13 v))) = _
    congr 2
    refine Prod.ext rfl ?_
    funext q
    dsimp only
    by_cases hq : q = 13
    · subst hq
      rw [if_pos rfl]
      simp [cx_fld, cx_I, cx_F]
    · rw [if_neg hq]
      simp [cx_fld, cx_I, cx_F, hq]
  · intro q hq
    unfold cx_cell
    rw [if_neg hq, if_neg hq]
    rfl
theorem cp_never {v : Int32} {kk : cz_H → cz_Z} (hb : h.1.1 ≤ x) : cz_put (cx_set h x X) (some x) [(0, 14)] (cz_i v) kk = kk (cx_set h x (cx_I X 14 v)) := by
  unfold cz_put
  dsimp only
  rw [cx_at0]
  show (if h.1.1 ≤ x then kk (cz_set (cx_set h x X) (x + 0) _) else none) = _
  rw [if_pos hb, cx_put h x X (cx_I X 14 v) (d := 0) (by omega)]
  · show some (Sum.inl (0, cx_fld x (cx_I X 14 v))) = _
    congr 2
    refine Prod.ext rfl ?_
    funext q
    dsimp only
    by_cases hq : q = 14
    · subst hq
      rw [if_pos rfl]
      simp [cx_fld, cx_I, cx_F]
    · rw [if_neg hq]
      simp [cx_fld, cx_I, cx_F, hq]
  · intro q hq
    unfold cx_cell
    rw [if_neg hq, if_neg hq]
    rfl
theorem cp_price {v : Int32} {kk : cz_H → cz_Z} (hb : h.1.1 ≤ x) : cz_put (cx_set h x X) (some x) [(0, 15)] (cz_i v) kk = kk (cx_set h x (cx_I X 15 v)) := by
  unfold cz_put
  dsimp only
  rw [cx_at0]
  show (if h.1.1 ≤ x then kk (cz_set (cx_set h x X) (x + 0) _) else none) = _
  rw [if_pos hb, cx_put h x X (cx_I X 15 v) (d := 0) (by omega)]
  · show some (Sum.inl (0, cx_fld x (cx_I X 15 v))) = _
    congr 2
    refine Prod.ext rfl ?_
    funext q
    dsimp only
    by_cases hq : q = 15
    · subst hq
      rw [if_pos rfl]
      simp [cx_fld, cx_I, cx_F]
    · rw [if_neg hq]
      simp [cx_fld, cx_I, cx_F, hq]
  · intro q hq
    unfold cx_cell
    rw [if_neg hq, if_neg hq]
    rfl
theorem cp_capital {v : Option Nat} {kk : cz_H → cz_Z} (hb : h.1.1 ≤ x) : cz_put (cx_set h x X) (some x) [(0, 3)] (cz_r v) kk = kk (cx_set h x (cx_F X 0 v)) := by
  unfold cz_put
  dsimp only
  rw [cx_at0]
  show (if h.1.1 ≤ x then kk (cz_set (cx_set h x X) (x + 0) _) else none) = _
  rw [if_pos hb, cx_put h x X (cx_F X 0 v) (d := 0) (by omega)]
  · show some (Sum.inl (0, cx_fld x (cx_F X 0 v))) = _
    congr 2
    refine Prod.ext rfl ?_
    funext q
    dsimp only
    by_cases hq : q = 3
    · subst hq
      rw [if_pos rfl]
      simp [cx_fld, cx_I, cx_F]
    · rw [if_neg hq]
      simp [cx_fld, cx_I, cx_F, hq]
  · intro q hq
    unfold cx_cell
    rw [if_neg hq, if_neg hq]
    rfl
theorem cp_sentence {v : Option Nat} {kk : cz_H → cz_Z} (hb : h.1.1 ≤ x) : cz_put (cx_set h x X) (some x) [(0, 6)] (cz_r v) kk = kk (cx_set h x (cx_F X 1 v)) := by
  unfold cz_put
  dsimp only
  rw [cx_at0]
  show (if h.1.1 ≤ x then kk (cz_set (cx_set h x X) (x + 0) _) else none) = _
  rw [if_pos hb, cx_put h x X (cx_F X 1 v) (d := 0) (by omega)]
  · show some (Sum.inl (0, cx_fld x (cx_F X 1 v))) = _
    congr 2
    refine Prod.ext rfl ?_
    funext q
    dsimp only
    by_cases hq : q = 6
    · subst hq
      rw [if_pos rfl]
      simp [cx_fld, cx_I, cx_F]
    · rw [if_neg hq]
      simp [cx_fld, cx_I, cx_F, hq]
  · intro q hq
    unfold cx_cell
    rw [if_neg hq, if_neg hq]
    rfl
theorem cl_tape {n : Nat} {kk : Int32 → cz_Z} (hn : n < 940) : cz_bald (cx_set h x X) (some (x + 1)) (Int32.ofNat n) kk = kk (X.2.2.1 0 n) := by
  unfold cz_bald cz_arr
  dsimp only
  rw [cx_at h x X (d := 1) (by omega)]
  show (if 1 = 1 ∨ 1 = 2 then (if _ then none else kk (X.2.2.1 0 (Int32.ofNat n).toNatClampNeg)) else none) = _
  rw [if_pos (Or.inl rfl), if_neg (px_in (show n < 2 ^ 31 by omega) hn), Int32.toNatClampNeg_ofNat_of_lt (show n < 2 ^ 31 by omega)]
theorem cs_tape {n : Nat} {v : Int32} {kk : cz_H → cz_Z} (hn : n < 940) (hb : h.1.1 ≤ x) : cz_bast (cx_set h x X) (some (x + 1)) (Int32.ofNat n) v kk = kk (cx_set h x (cx_A X 0 n v.toInt8.toInt32)) := by
  unfold cz_bast cz_arr
  dsimp only
  rw [cx_at h x X (d := 1) (by omega)]
  show (if 1 = 1 ∧ h.1.1 ≤ x + 1 then (if _ then none else kk (cz_set (cx_set h x X) (x + 1) _)) else _) = _
  rw [if_pos ⟨rfl, Nat.le_add_right_of_le hb⟩, if_neg (px_in (show n < 2 ^ 31 by omega) hn), Int32.toNatClampNeg_ofNat_of_lt (show n < 2 ^ 31 by omega), cx_put h x X (cx_A X 0 n v.toInt8.toInt32) (d := 1) (by omega)]
  · rfl
  · intro q hq
    unfold cx_cell
    by_cases e : q = 0
    · rw [if_pos e, if_pos e]; rfl
    · rw [if_neg e, if_neg e, if_neg hq, if_neg hq]; rfl
theorem cl_told {n : Nat} {kk : Int32 → cz_Z} (hn : n < 4) : cz_iald (cx_set h x X) (some (x + 25)) (Int32.ofNat n) kk = kk (X.2.2.1 1 n) := pc_iald (cx_at h x X (d := 25) (by omega)) hn (by decide)
theorem cs_told {n : Nat} {v : Int32} {kk : cz_H → cz_Z} (hn : n < 4) (hb : h.1.1 ≤ x) : cz_iast (cx_set h x X) (some (x + 25)) (Int32.ofNat n) v kk = kk (cx_set h x (cx_A X 1 n v)) := by
  unfold cz_iast cz_arr
  dsimp only
  rw [cx_at h x X (d := 25) (by omega)]
  show (if 0 = 0 ∧ h.1.1 ≤ x + 25 then (if _ then none else kk (cz_set (cx_set h x X) (x + 25) _)) else none) = _
  rw [if_pos ⟨rfl, Nat.le_add_right_of_le hb⟩, if_neg (px_in (show n < 2 ^ 31 by omega) hn), Int32.toNatClampNeg_ofNat_of_lt (show n < 2 ^ 31 by omega), cx_put h x X (cx_A X 1 n v) (d := 25) (by omega)]
  · rfl
  · intro q hq
    unfold cx_cell
    by_cases e : q = 0
    · rw [if_pos e, if_pos e]; rfl
    · by_cases e1 : q = 1
      · rw [if_neg e, if_pos e1, if_neg e, if_pos e1]; rfl
      · by_cases e2 : q = 24
        · rw [if_neg e, if_neg e1, if_pos e2, if_neg e, if_neg e1, if_pos e2]; rfl
        · rw [if_neg e, if_neg e1, if_neg e2, if_neg hq, if_neg e, if_neg e1, if_neg e2, if_neg hq]; rfl
theorem cl_before {n : Nat} {kk : Option Nat → cz_Z} (hn : n < 8) : cz_aald (cx_set h x X) (some (x + 24)) (Int32.ofNat n) kk = kk (X.2.2.2.1 n) := by
  unfold cz_aald cz_arr
  dsimp only
  rw [cx_at h x X (d := 24) (by omega)]
  show (if 5 = 4 ∨ 5 = 5 ∨ 5 = 6 then (if _ then none else kk (X.2.2.2.1 (Int32.ofNat n).toNatClampNeg)) else none) = _
  rw [if_pos (Or.inr (Or.inl rfl)), if_neg (px_in (show n < 2 ^ 31 by omega) hn), Int32.toNatClampNeg_ofNat_of_lt (show n < 2 ^ 31 by omega)]
theorem cs_before {n i : Nat} {kk : cz_H → cz_Z} (hn : n < 8) (hi : i < 12) (hb : h.1.1 ≤ x) : cz_aast (cx_set h x X) (some (x + 24)) (Int32.ofNat n) (some (x + cx_o i)) kk = kk (cx_set h x (cx_E X (va_up X.2.2.2.1 n (some (x + cx_o i))))) := by
  unfold cz_aast cz_arr
  dsimp only
  rw [cx_at h x X (d := 24) (by omega)]
  have e := cx_rin h x X hi 0 (by omega)
  rw [Nat.add_zero] at e
  dsimp only [cx_cell]
  rw [if_neg (by decide), if_neg (by decide), if_pos rfl]
  dsimp only
  rw [e]
  show (if cz_takes 5 3 = true ∧ h.1.1 ≤ x + 24 then (if _ then none else kk (cz_set (cx_set h x X) (x + 24) _)) else none) = _
  rw [if_pos ⟨rfl, Nat.le_add_right_of_le hb⟩, if_neg (px_in (show n < 2 ^ 31 by omega) hn), Int32.toNatClampNeg_ofNat_of_lt (show n < 2 ^ 31 by omega), cx_put h x X (cx_E X (va_up X.2.2.2.1 n (some (x + cx_o i)))) (d := 24) (by omega)]
  · rfl
  · intro q hq
    unfold cx_cell
    by_cases e : q = 0
    · rw [if_pos e, if_pos e]; rfl
    · by_cases e1 : q = 1
      · rw [if_neg e, if_pos e1, if_neg e, if_pos e1]; rfl
      · rw [if_neg e, if_neg e1, if_neg hq, if_neg e, if_neg e1, if_neg hq]; rfl
theorem cl_kept0 {kk : Option Nat → cz_Z} : cz_aald (cx_set h x X) (some (x + 26)) 0 kk = kk (some (x + 27)) := by
  unfold cz_aald cz_arr
  dsimp only
  rw [cx_at h x X (d := 26) (by omega)]
  rfl
theorem cl_kept1 {kk : Option Nat → cz_Z} : cz_aald (cx_set h x X) (some (x + 26)) 1 kk = kk (some (x + 36)) := by
  unfold cz_aald cz_arr
  dsimp only
  rw [cx_at h x X (d := 26) (by omega)]
  rfl
theorem cg_kc0 {kk : Option Nat → cz_Z} : cz_getR (cx_set h x X) (some (x + 27)) [(4, 0)] kk = kk (X.2.1 2) := pc_getR (cx_at h x X (d := 27) (by omega)) (j := 0) rfl rfl
theorem cg_ks0 {kk : Option Nat → cz_Z} : cz_getR (cx_set h x X) (some (x + 27)) [(4, 1)] kk = kk (X.2.1 4) := pc_getR (cx_at h x X (d := 27) (by omega)) (j := 1) rfl rfl
theorem cg_kr0 {kk : Option Nat → cz_Z} : cz_getR (cx_set h x X) (some (x + 27)) [(4, 2)] kk = kk (some (x + 28)) := pc_getR (cx_at h x X (d := 27) (by omega)) (j := 2) rfl rfl
theorem cp_kc0 {v : Option Nat} {kk : cz_H → cz_Z} (hb : h.1.1 ≤ x) : cz_put (cx_set h x X) (some (x + 27)) [(4, 0)] (cz_r v) kk = kk (cx_set h x (cx_F X 2 v)) := by
  unfold cz_put
  dsimp only
  rw [cx_at h x X (d := 27) (by omega)]
  show (if h.1.1 ≤ x + 27 then kk (cz_set (cx_set h x X) (x + 27) _) else none) = _
  rw [if_pos (Nat.le_add_right_of_le hb), cx_put h x X (cx_F X 2 v) (d := 27) (by omega)]
  · show some (Sum.inl (4, cx_kf _ _ (x + 28))) = _
    congr 2
    refine Prod.ext rfl ?_
    funext q
    dsimp only
    by_cases hq : q = 0
    · subst hq; rfl
    · rw [if_neg hq]
      simp [cx_kf, cx_F, hq]
  · intro q hq
    unfold cx_cell
    by_cases e0 : q = 0
    · rw [if_pos e0, if_pos e0] <;> rfl
    · skip
      by_cases e1 : q = 1
      · rw [if_neg e0, if_pos e1, if_neg e0, if_pos e1] <;> rfl
      · skip
        by_cases e24 : q = 24
        · rw [if_neg e0, if_neg e1, if_pos e24, if_neg e0, if_neg e1, if_pos e24] <;> rfl
        · skip
          by_cases e25 : q = 25
          · rw [if_neg e0, if_neg e1, if_neg e24, if_pos e25, if_neg e0, if_neg e1, if_neg e24, if_pos e25] <;> rfl
          · skip
            by_cases e26 : q = 26
            · rw [if_neg e0, if_neg e1, if_neg e24, if_neg e25, if_pos e26, if_neg e0, if_neg e1, if_neg e24, if_neg e25, if_pos e26] <;> rfl
            · skip
              rw [if_neg e0, if_neg e1, if_neg e24, if_neg e25, if_neg e26, if_neg hq, if_neg e0, if_neg e1, if_neg e24, if_neg e25, if_neg e26, if_neg hq]; rfl
theorem cp_ks0 {v : Option Nat} {kk : cz_H → cz_Z} (hb : h.1.1 ≤ x) : cz_put (cx_set h x X) (some (x + 27)) [(4, 1)] (cz_r v) kk = kk (cx_set h x (cx_F X 4 v)) := by
  unfold cz_put
  dsimp only
  rw [cx_at h x X (d := 27) (by omega)]
  show (if h.1.1 ≤ x + 27 then kk (cz_set (cx_set h x X) (x + 27) _) else none) = _
  rw [if_pos (Nat.le_add_right_of_le hb), cx_put h x X (cx_F X 4 v) (d := 27) (by omega)]
  · show some (Sum.inl (4, cx_kf _ _ (x + 28))) = _
    congr 2
    refine Prod.ext rfl ?_
    funext q
    dsimp only
    by_cases hq : q = 1
    · subst hq; rfl
    · rw [if_neg hq]
      simp [cx_kf, cx_F, hq]
  · intro q hq
    unfold cx_cell
    by_cases e0 : q = 0
    · rw [if_pos e0, if_pos e0] <;> rfl
    · skip
      by_cases e1 : q = 1
      · rw [if_neg e0, if_pos e1, if_neg e0, if_pos e1] <;> rfl
      · skip
        by_cases e24 : q = 24
        · rw [if_neg e0, if_neg e1, if_pos e24, if_neg e0, if_neg e1, if_pos e24] <;> rfl
        · skip
          by_cases e25 : q = 25
          · rw [if_neg e0, if_neg e1, if_neg e24, if_pos e25, if_neg e0, if_neg e1, if_neg e24, if_pos e25] <;> rfl
          · skip
            by_cases e26 : q = 26
            · rw [if_neg e0, if_neg e1, if_neg e24, if_neg e25, if_pos e26, if_neg e0, if_neg e1, if_neg e24, if_neg e25, if_pos e26] <;> rfl
            · skip
              rw [if_neg e0, if_neg e1, if_neg e24, if_neg e25, if_neg e26, if_neg hq, if_neg e0, if_neg e1, if_neg e24, if_neg e25, if_neg e26, if_neg hq]; rfl
theorem cg_kc1 {kk : Option Nat → cz_Z} : cz_getR (cx_set h x X) (some (x + 36)) [(4, 0)] kk = kk (X.2.1 3) := pc_getR (cx_at h x X (d := 36) (by omega)) (j := 0) rfl rfl
theorem cg_ks1 {kk : Option Nat → cz_Z} : cz_getR (cx_set h x X) (some (x + 36)) [(4, 1)] kk = kk (X.2.1 5) := pc_getR (cx_at h x X (d := 36) (by omega)) (j := 1) rfl rfl
theorem cg_kr1 {kk : Option Nat → cz_Z} : cz_getR (cx_set h x X) (some (x + 36)) [(4, 2)] kk = kk (some (x + 37)) := pc_getR (cx_at h x X (d := 36) (by omega)) (j := 2) rfl rfl
theorem cp_kc1 {v : Option Nat} {kk : cz_H → cz_Z} (hb : h.1.1 ≤ x) : cz_put (cx_set h x X) (some (x + 36)) [(4, 0)] (cz_r v) kk = kk (cx_set h x (cx_F X 3 v)) := by
  unfold cz_put
  dsimp only
  rw [cx_at h x X (d := 36) (by omega)]
  show (if h.1.1 ≤ x + 36 then kk (cz_set (cx_set h x X) (x + 36) _) else none) = _
  rw [if_pos (Nat.le_add_right_of_le hb), cx_put h x X (cx_F X 3 v) (d := 36) (by omega)]
  · show some (Sum.inl (4, cx_kf _ _ (x + 37))) = _
    congr 2
    refine Prod.ext rfl ?_
    funext q
    dsimp only
    by_cases hq : q = 0
    · subst hq; rfl
    · rw [if_neg hq]
      simp [cx_kf, cx_F, hq]
  · intro q hq
    unfold cx_cell
    by_cases e0 : q = 0
    · rw [if_pos e0, if_pos e0] <;> rfl
    · skip
      by_cases e1 : q = 1
      · rw [if_neg e0, if_pos e1, if_neg e0, if_pos e1] <;> rfl
      · skip
        by_cases e24 : q = 24
        · rw [if_neg e0, if_neg e1, if_pos e24, if_neg e0, if_neg e1, if_pos e24] <;> rfl
        · skip
          by_cases e25 : q = 25
          · rw [if_neg e0, if_neg e1, if_neg e24, if_pos e25, if_neg e0, if_neg e1, if_neg e24, if_pos e25] <;> rfl
          · skip
            by_cases e26 : q = 26
            · rw [if_neg e0, if_neg e1, if_neg e24, if_neg e25, if_pos e26, if_neg e0, if_neg e1, if_neg e24, if_neg e25, if_pos e26] <;> rfl
            · skip
              by_cases e27 : q = 27
              · rw [if_neg e0, if_neg e1, if_neg e24, if_neg e25, if_neg e26, if_pos e27, if_neg e0, if_neg e1, if_neg e24, if_neg e25, if_neg e26, if_pos e27] <;> rfl
              · skip
                rw [if_neg e0, if_neg e1, if_neg e24, if_neg e25, if_neg e26, if_neg e27, if_neg hq, if_neg e0, if_neg e1, if_neg e24, if_neg e25, if_neg e26, if_neg e27, if_neg hq]; rfl
theorem cp_ks1 {v : Option Nat} {kk : cz_H → cz_Z} (hb : h.1.1 ≤ x) : cz_put (cx_set h x X) (some (x + 36)) [(4, 1)] (cz_r v) kk = kk (cx_set h x (cx_F X 5 v)) := by
  unfold cz_put
  dsimp only
  rw [cx_at h x X (d := 36) (by omega)]
  show (if h.1.1 ≤ x + 36 then kk (cz_set (cx_set h x X) (x + 36) _) else none) = _
  rw [if_pos (Nat.le_add_right_of_le hb), cx_put h x X (cx_F X 5 v) (d := 36) (by omega)]
  · show some (Sum.inl (4, cx_kf _ _ (x + 37))) = _
    congr 2
    refine Prod.ext rfl ?_
    funext q
    dsimp only
    by_cases hq : q = 1
    · subst hq; rfl
    · rw [if_neg hq]
      simp [cx_kf, cx_F, hq]
  · intro q hq
    unfold cx_cell
    by_cases e0 : q = 0
    · rw [if_pos e0, if_pos e0] <;> rfl
    · skip
      by_cases e1 : q = 1
      · rw [if_neg e0, if_pos e1, if_neg e0, if_pos e1] <;> rfl
      · skip
        by_cases e24 : q = 24
        · rw [if_neg e0, if_neg e1, if_pos e24, if_neg e0, if_neg e1, if_pos e24] <;> rfl
        · skip
          by_cases e25 : q = 25
          · rw [if_neg e0, if_neg e1, if_neg e24, if_pos e25, if_neg e0, if_neg e1, if_neg e24, if_pos e25] <;> rfl
          · skip
            by_cases e26 : q = 26
            · rw [if_neg e0, if_neg e1, if_neg e24, if_neg e25, if_pos e26, if_neg e0, if_neg e1, if_neg e24, if_neg e25, if_pos e26] <;> rfl
            · skip
              by_cases e27 : q = 27
              · rw [if_neg e0, if_neg e1, if_neg e24, if_neg e25, if_neg e26, if_pos e27, if_neg e0, if_neg e1, if_neg e24, if_neg e25, if_neg e26, if_pos e27] <;> rfl
              · skip
                rw [if_neg e0, if_neg e1, if_neg e24, if_neg e25, if_neg e26, if_neg e27, if_neg hq, if_neg e0, if_neg e1, if_neg e24, if_neg e25, if_neg e26, if_neg e27, if_neg hq]; rfl
end CXA
