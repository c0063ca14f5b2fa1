/-! THE PLAIN LAW, 39: how many there are in a set -/
set_option maxRecDepth 100000
def sp_pop (v : Nat) : Nat := ((List.range 8).filter (fun j => v.testBit j)).length
def sp_bl : Nat → Int32 → Int32 → Int32
  | 0, a, _ => a
  | n + 1, a, v => if v = 0 then a else sp_bl n (a + 1) (v &&& (v - 1))
/-- done within n -/
def sp_bz : Nat → Int32 → Bool
  | 0, v => decide (v = 0)
  | n + 1, v => decide (v = 0) || sp_bz n (v &&& (v - 1))
set_option maxHeartbeats 4000000 in
theorem sp_bl_pop : ∀ i : Fin 256, sp_bz 8 (Int32.ofNat i.val) = true ∧ sp_bl 8 0 (Int32.ofNat i.val) = Int32.ofNat (sp_pop i.val) := by decide +kernel
set_option maxHeartbeats 4000000 in
theorem sp_bc_pop : ∀ i : Fin 256, (fun (l0 : Int32) => (fun (x1 : Int32) => (fun (x2 : Int32) => (fun (x3 : Int32) => (fun (x4 : Int32) => (fun (x5 : Int32) => x5 &&& 63) (x4 + (((x4).toUInt32 >>> (((16 : Int32)).toUInt32 &&& Int32.toUInt32 31)).toInt32))) (x3 + (((x3).toUInt32 >>> (((8 : Int32)).toUInt32 &&& Int32.toUInt32 31)).toInt32))) ((x2 + (((x2).toUInt32 >>> (((4 : Int32)).toUInt32 &&& Int32.toUInt32 31)).toInt32)) &&& 252645135)) ((x1 &&& 858993459) + ((((x1).toUInt32 >>> (((2 : Int32)).toUInt32 &&& Int32.toUInt32 31)).toInt32) &&& 858993459))) (l0 - ((((l0).toUInt32 >>> (((1 : Int32)).toUInt32 &&& Int32.toUInt32 31)).toInt32) &&& 1431655765))) (Int32.ofNat i.val) = Int32.ofNat (sp_pop i.val) := by decide +kernel
theorem pm_bits_4 {k0 : Int32 → cz_H → cz_Z} {h : cz_H} : ∀ (n f : Nat) (a v : Int32), n < f → sp_bz n v = true → fn_X5_bits_4 k0 f a v h = k0 (sp_bl n a v) h := by
  intro n
  induction n with
  | zero =>
    intro f a v hf hz
    obtain ⟨f, rfl⟩ : ∃ g, f = g + 1 := ⟨f - 1, by omega⟩
    rw [fn_X5_bits_4, if_pos (of_decide_eq_true hz)]
    rfl
  | succ n ih =>
    intro f a v hf hz
    obtain ⟨f, rfl⟩ : ∃ g, f = g + 1 := ⟨f - 1, by omega⟩
    rw [fn_X5_bits_4, sp_bl]
    by_cases e : v = 0
    · rw [if_pos e, if_pos e]
    · rw [if_neg e, if_neg e]
      unfold sp_bz at hz
      rw [decide_eq_false e, Bool.false_or] at hz
      exact ih f _ _ (by omega) hz
theorem pm_bits {v : Nat} {h : cz_H} (hv : v < 256) : fn_X5_bits (Int32.ofNat v) h = some (.inl (some (cz_i (Int32.ofNat (sp_pop v)))), h) := by
  obtain ⟨a, b⟩ := sp_bl_pop ⟨v, hv⟩
  rw [fn_X5_bits]
  refine (pm_bits_4 8 1000 0 _ (by omega) a).trans ?_
  rw [b]
theorem pc_bitCount {v : Nat} {h : cz_H} (hv : v < 256) : fn_J17_bitCount (Int32.ofNat v) h = some (.inl (some (cz_i (Int32.ofNat (sp_pop v)))), h) := by
  have e := sp_bc_pop ⟨v, hv⟩
  dsimp only at e
  rw [fn_J17_bitCount]
  simp only [cz_leti]
  rw [e]
theorem px_tb {v j : Nat} (hj : j < 32) : (Int32.ofNat v).toBitVec.getLsbD j = v.testBit j := by
  show (BitVec.ofNat 32 v).getLsbD j = _
  rw [BitVec.getLsbD_ofNat]
  simp [hj]
/-- a set of less than 8 is a number below 256 -/
theorem px_256 {a : Int32} (h : ∀ j, 8 ≤ j → j < 32 → a.toBitVec.getLsbD j = false) : ∃ v, v < 256 ∧ a = Int32.ofNat v ∧ ∀ j, j < 8 → v.testBit j = a.toBitVec.getLsbD j := by
  have hv : a.toBitVec.toNat < 256 := by
    have : a.toBitVec.toNat < 2 ^ 8 := by
      apply Nat.lt_pow_two_of_testBit
      intro i hi
      by_cases h32 : i < 32
      · exact h i hi h32
      · rw [BitVec.testBit_toNat]
        exact BitVec.getLsbD_of_ge _ _ (by omega)
    exact this
  refine ⟨a.toBitVec.toNat, hv, ?_, fun j hj => BitVec.testBit_toNat _⟩
  apply Int32.toBitVec_inj.mp
  show _ = BitVec.ofNat 32 a.toBitVec.toNat
  rw [BitVec.ofNat_toNat]
  simp
theorem sp_pop_le (v : Nat) : sp_pop v ≤ 8 := by
  unfold sp_pop
  exact Nat.le_trans (List.length_filter_le _ _) (by simp)
theorem sp_set_256 {p : Nat → Prop} [DecidablePred p] {n : Nat} (hn : n ≤ 8) : ∃ v, v < 256 ∧ sp_fold (fun c a => if p c then a ||| ((1 : Int32) <<< (Int32.ofNat c &&& 31)) else a) n 0 0 = Int32.ofNat v ∧ ∀ j, j < 8 → v.testBit j = decide (j < n ∧ p j) := by
  have hb : ∀ j, j < 32 → (sp_fold (fun c a => if p c then a ||| ((1 : Int32) <<< (Int32.ofNat c &&& 31)) else a) n 0 0).toBitVec.getLsbD j = decide (j < n ∧ p j) := by
    intro j hj
    rw [sp_set_bit hj _ _ _ (by omega)]
    simp
  obtain ⟨v, h1, h2, h3⟩ := px_256 (a := sp_fold (fun c a => if p c then a ||| ((1 : Int32) <<< (Int32.ofNat c &&& 31)) else a) n 0 0) (fun j h8 h32 => by
    rw [hb j h32]
    exact decide_eq_false (fun q => by omega))
  exact ⟨v, h1, h2, fun j hj => by rw [h3 j hj, hb j (by omega)]⟩
