/-! THE PLAIN LAW, 10: how the component's objects lie in the heap -/
set_option maxRecDepth 100000
section PCA
variable {h : cz_H} {a ci j n : Nat} {V : Nat → cz_v} {js : List (Nat × Nat)} {cs : List Nat}
theorem pc_getI {x : Int32} {kk : Int32 → cz_Z} (hc : h.2.2.2 a = some (.inl (ci, V))) (hv : V j = cz_i x) (hl : cz_lk js ci = some j) : cz_getI h (some a) js kk = kk x := by
  unfold cz_getI cz_fld
  dsimp only
  rw [hc]
  dsimp only
  rw [hl]
  dsimp only
  rw [hv]
  rfl
theorem pc_getR {x : Option Nat} {kk : Option Nat → cz_Z} (hc : h.2.2.2 a = some (.inl (ci, V))) (hv : V j = cz_r x) (hl : cz_lk js ci = some j) : cz_getR h (some a) js kk = kk x := by
  unfold cz_getR cz_fld
  dsimp only
  rw [hc]
  dsimp only
  rw [hl]
  dsimp only
  rw [hv]
  rfl
theorem pc_rc {z : cz_Z} (hc : h.2.2.2 a = some (.inl (ci, V))) (hi : ci ∈ cs) : cz_rc h (some a) cs z = z := by
  unfold cz_rc
  dsimp only
  rw [hc]
  exact if_pos hi
theorem pc_cast {z : cz_Z} (hc : h.2.2.2 a = some (.inl (ci, V))) (hi : ci ∈ cs) : cz_cast h (some a) cs z = z := by
  unfold cz_cast
  dsimp only
  rw [hc]
  exact if_pos hi
theorem pc_iald {f : Nat → Int32} {i : Nat} {kk : Int32 → cz_Z} (hc : h.2.2.2 a = some (.inr (0, n, .inl f))) (hi : i < n) (hn : n < 2147483648) : cz_iald h (some a) (Int32.ofNat i) kk = kk (f i) := by
  unfold cz_iald cz_arr
  dsimp only
  rw [hc]
  show (if 0 = 0 ∨ 0 = 7 then (if _ then none else kk (f (Int32.ofNat i).toNatClampNeg)) else none) = _
  rw [if_pos (Or.inl rfl), if_neg (px_in (by omega) hi), Int32.toNatClampNeg_ofNat_of_lt (show i < 2 ^ 31 by omega)]
theorem pc_aald {f : Nat → Option Nat} {i : Nat} {kk : Option Nat → cz_Z} (hc : h.2.2.2 a = some (.inr (4, n, cz_qa f))) (hi : i < n) (hn : i < 2147483648) : cz_aald h (some a) (Int32.ofNat i) kk = kk (f i) := by
  unfold cz_aald cz_arr
  dsimp only
  rw [hc]
  show (if 4 = 4 ∨ 4 = 5 ∨ 4 = 6 then (if _ then none else kk (f (Int32.ofNat i).toNatClampNeg)) else none) = _
  rw [if_pos (Or.inl rfl), if_neg (px_in (by omega) hi), Int32.toNatClampNeg_ofNat_of_lt (show i < 2 ^ 31 by omega)]
end PCA
/-- a list of n things -/
def pc_List (F : Nat → Option cz_C) (l n : Nat) (P : Nat → Nat → Prop) : Prop := ∃ (V : Nat → cz_v) (d len : Nat) (E : Nat → Option Nat), F l = some (.inl (2, V)) ∧ V 1 = cz_r (some d) ∧ V 2 = cz_i (Int32.ofNat n) ∧ F d = some (.inr (4, len, cz_qa E)) ∧ n ≤ len ∧ ∀ i, i < n → ∃ e, E i = some e ∧ P i e
/-- a String of these bytes -/
def pc_Str (F : Nat → Option cz_C) (st : Nat) (w : List Int32) : Prop := ∃ (V : Nat → cz_v) (v : Nat) (g : Nat → Int32), F st = some (.inl (8, V)) ∧ V 0 = cz_r (some v) ∧ V 1 = cz_i 0 ∧ F v = some (.inr (1, w.length, .inl g)) ∧ ∀ i, i < w.length → g i = w.getD i 0
/-- a word as the reference has it -/
def sp_pack (w : List Int32) : Int64 := w.foldl (fun a x => (a <<< 8) ||| x.toInt64) 0
def pc_Told (F : Nat → Option cz_C) (num : Nat → Int32) (nm : Nat → Int64) (i e : Nat) : Prop := ∃ (V : Nat → cz_v) (st : Nat) (w : List Int32), F e = some (.inl (10, V)) ∧ V 0 = cz_r (some st) ∧ V 1 = cz_i (num i) ∧ pc_Str F st w ∧ w.length ≤ 7 ∧ (∀ x ∈ w, 97 ≤ x ∧ x ≤ 122) ∧ sp_pack w = nm i
def pc_Coat (F : Nat → Option cz_C) (s : Nat → Int32) (nm : Nat → Int64) (i e : Nat) : Prop := ∃ (V : Nat → cz_v) (st : Nat) (w : List Int32), F e = some (.inl (11, V)) ∧ V 0 = cz_r (some st) ∧ V 1 = cz_i (s (22 + i)) ∧ V 2 = cz_i (s (30 + i)) ∧ V 3 = cz_i (s (38 + i)) ∧ pc_Str F st w ∧ w.length ≤ 7 ∧ (∀ x ∈ w, 97 ≤ x ∧ x ≤ 122) ∧ sp_pack w = nm (14 + i)
/-- the Capital at c is the one of the row s, with the names nm -/
def pc_Cap (F : Nat → Option cz_C) (c : Nat) (s : Nat → Int32) (nm : Nat → Int64) : Prop := ∃ (V : Nat → cz_v) (ls lm lc f0 f1 : Nat) (g0 g1 : Nat → Int32),
  F c = some (.inl (1, V)) ∧ V 1 = cz_i (s 7) ∧ V 2 = cz_i (s 3) ∧ V 3 = cz_i (s 4) ∧ V 4 = cz_i (s 5) ∧ V 5 = cz_i (s 6) ∧ V 6 = cz_r (some ls) ∧ V 7 = cz_r (some lm) ∧ V 8 = cz_r (some lc) ∧ V 9 = cz_r (some f0) ∧ V 10 = cz_r (some f1) ∧
  F f0 = some (.inr (0, 8, .inl g0)) ∧ F f1 = some (.inr (0, 8, .inl g1)) ∧ (∀ k, k < sp_n s 7 → g0 k = s (46 + k) ∧ g1 k = s (54 + k)) ∧
  pc_List F ls (sp_n s 0) (pc_Told F (fun i => s (8 + i)) nm) ∧ pc_List F lm (sp_n s 1) (pc_Told F (fun i => s (16 + i)) (fun i => nm (8 + i))) ∧ pc_List F lc (sp_n s 2) (pc_Coat F s nm)
/-- cold days are told once, none below 0 -/
def sp_colds (s : Nat → Int32) : Prop := (∀ k, k < sp_n s 7 → 0 ≤ s (46 + k)) ∧ ∀ i k, i < sp_n s 7 → k < sp_n s 7 → s (46 + i) = s (46 + k) → i = k
section PCB
variable {h : cz_H} {c l n : Nat} {s : Nat → Int32} {nm : Nat → Int64} {P : Nat → Nat → Prop}
theorem pc_size (hl : pc_List h.2.2.2 l n P) : fn_J2_size (some l) h = some (.inl (some (cz_i (Int32.ofNat n))), h) := by
  obtain ⟨V, d, len, E, q1, q2, q3, -⟩ := hl
  rw [fn_J2_size, pc_getI q1 q3 rfl]
theorem pc_lrc {z : cz_Z} (hl : pc_List h.2.2.2 l n P) : cz_rc h (some l) [2] z = z := by
  obtain ⟨V, d, len, E, q1, -⟩ := hl
  exact pc_rc q1 (by decide)
theorem pc_get {i : Nat} (hl : pc_List h.2.2.2 l n P) (hi : i < n) (hn : n < 2147483648) : ∃ e, fn_J2_get (some l) (Int32.ofNat i) h = some (.inl (some (cz_r (some e))), h) ∧ P i e := by
  have hl' := hl
  obtain ⟨V, d, len, E, q1, q2, q3, q4, q5, q6⟩ := hl'
  obtain ⟨e, e1, e2⟩ := q6 i hi
  refine ⟨e, ?_, e2⟩
  rw [fn_J2_get, pc_getI q1 q3 rfl, fn_J4_checkIndex, fn_J5_checkIndex, if_neg (px_neg (by omega)), if_pos (by rw [px_lt (by omega) (by omega)]; exact hi), px_cI, px_cI, pc_lrc hl, fn_J2_elementData, pc_getR q1 q2 rfl, pc_aald q4 (by omega) (by omega), e1, px_cR]
theorem pc_cold_4 {day : Int32} {k0 : Int32 → cz_H → cz_Z} (ok : sp_ok s) (hC : pc_Cap h.2.2.2 c s nm) (hd : sp_colds s) : ∀ (n f k : Nat) (b fr cold : Int32), k + n = sp_n s 7 → n < f → ((b = -1 ∧ fr = -1 ∧ cold = 0) ∨ ∃ i, i < k ∧ b = Int32.ofNat i ∧ fr = s (46 + i) ∧ cold = s (54 + i)) →
    ∃ b', fn_X2_cold_4 (some c) day k0 f b (Int32.ofNat k) h = k0 b' h ∧ ((b' = -1 ∧ (sp_fold (fun k (a : Int32 × Int32) => if day < s (46 + k) then a else if a.1 ≤ s (46 + k) then (s (46 + k), s (54 + k)) else a) n k (fr, cold)).2 = 0) ∨ ∃ i, i < sp_n s 7 ∧ b' = Int32.ofNat i ∧ (sp_fold (fun k (a : Int32 × Int32) => if day < s (46 + k) then a else if a.1 ≤ s (46 + k) then (s (46 + k), s (54 + k)) else a) n k (fr, cold)).2 = s (54 + i)) := by
  obtain ⟨V, ls, lm, lc, f0, f1, g0, g1, v1, v2, v3, v4, v5, v6, v7, v8, v9, v10, v11, v12, v13, v14, -⟩ := hC
  obtain ⟨-, -, -, hc, h8⟩ := ok
  intro n
  induction n with
  | zero =>
    intro f k b fr cold hk hf hr
    obtain ⟨f, rfl⟩ : ∃ g, f = g + 1 := ⟨f - 1, by omega⟩
    refine ⟨b, ?_, ?_⟩
    · rw [fn_X2_cold_4, pc_getI v1 v2 rfl, hc, if_pos (by rw [px_le (by omega) (by omega)]; omega)]
    · rcases hr with ⟨e1, e2, e3⟩ | ⟨i, hi, e1, e2, e3⟩
      · exact Or.inl ⟨e1, e3⟩
      · exact Or.inr ⟨i, by omega, e1, e3⟩
  | succ n ih =>
    intro f k b fr cold hk hf hr
    obtain ⟨f, rfl⟩ : ∃ g, f = g + 1 := ⟨f - 1, by omega⟩
    have hg := (v14 k (by omega)).1
    rw [fn_X2_cold_4, pc_getI v1 v2 rfl, hc, if_neg (by rw [px_le (by omega) (by omega)]; omega)]
    rw [pc_getR v1 v10 rfl, pc_iald v12 (by omega) (by omega), hg]
    simp only [cz_leti, px_c1r, sp_fold]
    by_cases hday : day < s (46 + k)
    · rw [if_pos hday, if_pos hday]
      refine ih f (k + 1) b fr cold (by omega) (by omega) ?_
      rcases hr with e | ⟨i, hi, e⟩
      · exact Or.inl e
      · exact Or.inr ⟨i, by omega, e⟩
    · rw [if_neg hday, if_neg hday]
      rcases hr with ⟨e1, e2, e3⟩ | ⟨i, hi, e1, e2, e3⟩
      · rw [if_pos e1, e2, if_pos (Int32.le_trans (by decide) (hd.1 k (by omega)))]
        exact ih f (k + 1) _ _ _ (by omega) (by omega) (Or.inr ⟨k, by omega, rfl, rfl, rfl⟩)
      · rw [e1, if_neg (px_pos (by omega)), pc_getR v1 v10 rfl, pc_iald v12 (by omega) (by omega), pc_getR v1 v10 rfl, pc_iald v12 (by omega) (by omega), hg, (v14 i (by omega)).1, e2]
        have hne : s (46 + k) ≠ s (46 + i) := fun e => by have := hd.2 k i (by omega) (by omega) e; omega
        by_cases hle : s (46 + k) ≤ s (46 + i)
        · rw [if_pos hle, if_neg (fun q => hne (Int32.le_antisymm hle q))]
          exact ih f (k + 1) _ _ _ (by omega) (by omega) (Or.inr ⟨i, by omega, rfl, rfl, e3⟩)
        · rw [if_neg hle, if_pos (Int32.le_of_lt (Int32.not_le.mp hle))]
          exact ih f (k + 1) _ _ _ (by omega) (by omega) (Or.inr ⟨k, by omega, rfl, rfl, rfl⟩)
theorem pc_cold {day : Int32} (ok : sp_ok s) (hC : pc_Cap h.2.2.2 c s nm) (hd : sp_colds s) : fn_X2_cold (some c) day h = some (.inl (some (cz_i (sp_coldOn s day))), h) := by
  have h8 := ok.2.2.2.2
  obtain ⟨b, e, hb⟩ := pc_cold_4 (day := day) (k0 := fun (e12 : Int32) (h13 : cz_H) => (if e12 = (-1) then some (.inl (some (cz_i 0)), h13) else cz_getR h13 (some c) [(1, 10)] (fun r14 => cz_iald h13 r14 e12 (fun x15 => some (.inl (some (cz_i x15)), h13))))) ok hC hd (sp_n s 7) 1000 0 (-1) (-1) 0 (Nat.zero_add _) (by omega) (Or.inl ⟨rfl, rfl, rfl⟩)
  rw [fn_X2_cold]
  refine e.trans ?_
  unfold sp_coldOn
  obtain ⟨V, ls, lm, lc, f0, f1, g0, g1, v1, v2, v3, v4, v5, v6, v7, v8, v9, v10, v11, v12, v13, v14, -⟩ := hC
  rcases hb with ⟨e1, e2⟩ | ⟨i, hi, e1, e2⟩
  · rw [if_pos e1, e2]
  · rw [e1, if_neg (px_pos (by omega)), pc_getR v1 v11 rfl, pc_iald v13 (by omega) (by omega), (v14 i hi).2, e2]
end PCB
