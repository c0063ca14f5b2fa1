/-! THE PLAIN LAW, 35: what is asked, on: coats, men -/
set_option maxRecDepth 100000
section CQD
variable {h : cz_H} {r c : Nat} {R : rx_R} {s : Nat → Int32} {nm : Nat → Int64}
noncomputable def sp_heldBy (s : Nat → Int32) (y : Int32) : Int32 := sp_fold (fun k a => if sp_holder s (Int32.ofNat k) = y then a ||| ((1 : Int32) <<< (Int32.ofNat k &&& 31)) else a) (sp_n s 0) 0 0
def sp_worth (s : Nat → Int32) (y : Int32) : Int32 := sp_fold (fun k a => if ((y >>> (Int32.ofNat k &&& 31)) &&& 1) = 1 then a + s (8 + k) else a) (sp_n s 0) 0 0
theorem rm_heldBy_4 {y : Int32} {k0 : Int32 → cz_H → cz_Z} (H : rx_is h r R c s nm) : ∀ (n f k : Nat) (a : Int32), k + n = sp_n s 0 → n < f → fn_X3_heldBy_4 (some r) y k0 f a (Int32.ofNat k) (rx_set h r R) = k0 (sp_fold (fun k a => if sp_holder s (Int32.ofNat k) = y then a ||| ((1 : Int32) <<< (Int32.ofNat k &&& 31)) else a) n k a) (rx_set h r R) := by
  have h8 := H.1.1.2
  intro n
  induction n with
  | zero =>
    intro f k a hk hf
    obtain ⟨f, rfl⟩ : ∃ g, f = g + 1 := ⟨f - 1, by omega⟩
    rw [fn_X3_heldBy_4, rx_rc, rm_seats H.2.2.1 H.2.2.2.1, px_cI, if_pos (by rw [px_le (by omega) (by omega)]; omega)]
    rfl
  | succ n ih =>
    intro f k a hk hf
    obtain ⟨f, rfl⟩ : ∃ g, f = g + 1 := ⟨f - 1, by omega⟩
    rw [fn_X3_heldBy_4, rx_rc, rm_seats H.2.2.1 H.2.2.2.1, px_cI, if_neg (by rw [px_le (by omega) (by omega)]; omega), rx_rc, rm_holder H, px_cI]
    simp only [cz_leti, px_c1r]
    rw [sp_fold]
    split <;> exact ih f (k + 1) _ (by omega) (by omega)
theorem rm_heldBy {y : Int32} (H : rx_is h r R c s nm) : fn_X3_heldBy (some r) y (rx_set h r R) = some (.inl (some (cz_i (sp_heldBy s y))), rx_set h r R) := by
  have h8 := H.1.1.2
  rw [fn_X3_heldBy]
  exact rm_heldBy_4 H (sp_n s 0) 1000 0 0 (Nat.zero_add _) (by omega)
theorem rm_worth_4 {y : Int32} {k0 : Int32 → cz_H → cz_Z} (H : rx_is h r R c s nm) : ∀ (n f k : Nat) (a : Int32), k + n = sp_n s 0 → n < f → fn_X3_worth_4 (some r) y k0 f a (Int32.ofNat k) (rx_set h r R) = k0 (sp_fold (fun k a => if ((y >>> (Int32.ofNat k &&& 31)) &&& 1) = 1 then a + s (8 + k) else a) n k a) (rx_set h r R) := by
  have h8 := H.1.1.2
  intro n
  induction n with
  | zero =>
    intro f k a hk hf
    obtain ⟨f, rfl⟩ : ∃ g, f = g + 1 := ⟨f - 1, by omega⟩
    rw [fn_X3_worth_4, rx_rc, rm_seats H.2.2.1 H.2.2.2.1, px_cI, if_pos (by rw [px_le (by omega) (by omega)]; omega)]
    rfl
  | succ n ih =>
    intro f k a hk hf
    obtain ⟨f, rfl⟩ : ∃ g, f = g + 1 := ⟨f - 1, by omega⟩
    rw [fn_X3_worth_4, rx_rc, rm_seats H.2.2.1 H.2.2.2.1, px_cI, if_neg (by rw [px_le (by omega) (by omega)]; omega), pc_isOf, px_cI]
    simp only [cz_leti, px_c1r, px_e0, ite_not]
    rw [sp_fold]
    split
    · rw [rg_c, H.2.2.1]
      refine (pc_seatN (i := k) H.1 H.2.2.2.1 (by omega)).trans ?_
      exact ih f (k + 1) _ (by omega) (by omega)
    · exact ih f (k + 1) _ (by omega) (by omega)
theorem rm_worth {y : Int32} (H : rx_is h r R c s nm) : fn_X3_worth (some r) y (rx_set h r R) = some (.inl (some (cz_i (sp_worth s y))), rx_set h r R) := by
  have h8 := H.1.1.2
  rw [fn_X3_worth]
  exact rm_worth_4 H (sp_n s 0) 1000 0 0 (Nat.zero_add _) (by omega)
end CQD
/-- bits of a set -/
theorem px_sh31 {j : Nat} (hj : j < 32) : ((Int32.ofNat j &&& 31).toBitVec.smod 32).toNat = j := by
  have : ∀ j : Fin 32, ((Int32.ofNat j.val &&& 31).toBitVec.smod 32).toNat = j.val := by decide
  exact this ⟨j, hj⟩
theorem px_and1 {z : BitVec 32} : (z &&& 1#32 = 1#32) = (z.getLsbD 0 = true) := by
  apply propext
  constructor
  · intro h
    have := congrArg (fun v => BitVec.getLsbD v 0) h
    simpa using this
  · intro h
    apply BitVec.eq_of_getLsbD_eq
    intro i hi
    rw [BitVec.getLsbD_and, BitVec.getLsbD_one]
    by_cases hi0 : i = 0
    · subst hi0; rw [h]; simp
    · simp [hi0]
theorem px_bit {a : Int32} {j : Nat} (hj : j < 32) : (((a >>> (Int32.ofNat j &&& 31)) &&& 1) = 1) = (a.toBitVec.getLsbD j = true) := by
  rw [← Int32.toBitVec_inj, Int32.toBitVec_and, Int32.toBitVec_shiftRight]
  have e1 : (1 : Int32).toBitVec = 1#32 := rfl
  rw [e1, px_and1, BitVec.sshiftRight', px_sh31 hj, BitVec.getLsbD_sshiftRight]
  simp [hj]
theorem px_one {k j : Nat} (hk : k < 32) (hj : j < 32) : ((1 : Int32) <<< (Int32.ofNat k &&& 31)).toBitVec.getLsbD j = decide (j = k) := by
  rw [Int32.toBitVec_shiftLeft, BitVec.shiftLeft_eq', px_sh31 hk, BitVec.getLsbD_shiftLeft]
  have e1 : (1 : Int32).toBitVec = 1#32 := rfl
  rw [e1, BitVec.getLsbD_one]
  by_cases e : j = k
  · subst e; simp; omega
  · simp [e]; omega
/-- the bits of a set that is gathered -/
theorem sp_set_bit {p : Nat → Prop} [DecidablePred p] {j : Nat} (hj : j < 32) : ∀ (n k : Nat) (a : Int32), k + n ≤ 32 → (sp_fold (fun c a => if p c then a ||| ((1 : Int32) <<< (Int32.ofNat c &&& 31)) else a) n k a).toBitVec.getLsbD j = (a.toBitVec.getLsbD j || decide (k ≤ j ∧ j < k + n ∧ p j)) := by
  intro n
  induction n with
  | zero => intro k a _; rw [sp_fold]; simp; omega
  | succ n ih =>
    intro k a hn
    rw [sp_fold, ih (k + 1) _ (by omega)]
    by_cases hp : p k
    · rw [if_pos hp, Int32.toBitVec_or, BitVec.getLsbD_or, px_one (by omega) hj, Bool.or_assoc]
      congr 1
      by_cases e : j = k
      · subst e; simp [hp]
      · have e1 : (k + 1 ≤ j) = (k ≤ j) := propext ⟨fun q => by omega, fun q => by omega⟩
        have e2 : (j < k + 1 + n) = (j < k + (n + 1)) := propext ⟨fun q => by omega, fun q => by omega⟩
        simp only [e, e1, e2, decide_false, Bool.false_or]
    · rw [if_neg hp]
      congr 1
      by_cases e : j = k
      · subst e; simp [hp]
      · have e1 : (k + 1 ≤ j) = (k ≤ j) := propext ⟨fun q => by omega, fun q => by omega⟩
        have e2 : (j < k + 1 + n) = (j < k + (n + 1)) := propext ⟨fun q => by omega, fun q => by omega⟩
        simp only [e, e1, e2, decide_false, Bool.false_or]
theorem px_set_ext {a b : Int32} (h : ∀ j, j < 32 → a.toBitVec.getLsbD j = b.toBitVec.getLsbD j) : a = b := by
  apply Int32.toBitVec_inj.mp
  exact BitVec.eq_of_getLsbD_eq (fun i hi => h i hi)
theorem px_not_bit {a : Int32} {j : Nat} (hj : j < 32) : (a ^^^ (-1)).toBitVec.getLsbD j = !a.toBitVec.getLsbD j := by
  rw [Int32.toBitVec_xor, BitVec.getLsbD_xor]
  have e : (-1 : Int32).toBitVec = BitVec.allOnes 32 := rfl
  rw [e, BitVec.getLsbD_allOnes]
  simp [hj]
theorem sp_coatsAt_bit {s : Nat → Int32} {y : Int32} {j : Nat} (h8 : sp_n s 2 ≤ 8) (hj : j < 32) : (sp_coatsAt s y).toBitVec.getLsbD j = decide (j < sp_n s 2 ∧ s (65 + j) = y) := by
  unfold sp_coatsAt
  rw [sp_set_bit hj _ _ _ (by omega)]
  simp
theorem sp_coatsOf_bit {s : Nat → Int32} {y : Int32} {j : Nat} (h8 : sp_n s 2 ≤ 8) (hj : j < 32) : (sp_coatsOf s y).toBitVec.getLsbD j = decide (j < sp_n s 2 ∧ s (22 + j) = y) := by
  unfold sp_coatsOf
  rw [sp_set_bit hj _ _ _ (by omega)]
  simp
theorem sp_heldBy_bit {s : Nat → Int32} {y : Int32} {j : Nat} (h8 : sp_n s 0 ≤ 8) (hj : j < 32) : (sp_heldBy s y).toBitVec.getLsbD j = decide (j < sp_n s 0 ∧ sp_holder s (Int32.ofNat j) = y) := by
  unfold sp_heldBy
  rw [sp_set_bit hj _ _ _ (by omega)]
  simp
