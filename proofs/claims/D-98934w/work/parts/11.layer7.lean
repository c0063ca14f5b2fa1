/-! THE LAYER, 7: storing references, allocation, statics, constants, casts, natives (printed by wip/D-98934w/gen/layer7.py) -/
theorem cz_ocast : ∀ (i : Nat) (q : vw_C), cz_cl[i]? = some q → Cond.castable q.1 "java/lang/Object" ∈ lw_tbl := by
  intro i q h
  match i, h with
  | 0, h => cases h; exact q2543
  | 1, h => cases h; exact q2544
  | 2, h => cases h; exact q2545
  | 3, h => cases h; exact q2541
  | 4, h => cases h; exact q2542
  | 5, h => cases h; exact q2546
  | 6, h => cases h; exact q2547
  | 7, h => cases h; exact q2548
  | 8, h => cases h; exact q2549
  | 9, h => cases h; exact q2550
  | 10, h => cases h; exact q2551
  | 11, h => cases h; exact q2552
  | 12, h => cases h; exact q2554
  | 13, h => cases h; exact q2555
  | 14, h => cases h; exact q2556
  | 15, h => cases h; exact q2557
  | 16, h => cases h; exact q2558
  | 17, h => cases h; exact q2559
  | 18, h => cases h; exact q2560
  | 19, h => cases h; exact q2561
  | 20, h => cases h; exact q2562
  | 21, h => cases h; exact q2563
  | 22, h => cases h; exact q2564
  | 23, h => cases h; exact q2565
  | 24, h => cases h; exact q2553
  | i + 25, h => simp [cz_cl] at h
/-- what the fields of a new object hold -/
def cz_df (ci : Nat) : Nat → cz_v := match ci with
  | 0 => fun k => match k with
    | 0 => cz_r none
    | 1 => cz_i 0
    | 2 => cz_i 0
    | 3 => cz_r none
    | 4 => cz_r none
    | 5 => cz_r none
    | 6 => cz_r none
    | 7 => cz_r none
    | 8 => cz_i 0
    | 9 => cz_i 0
    | 10 => cz_i 0
    | 11 => cz_i 0
    | 12 => cz_i 0
    | 13 => cz_i 0
    | 14 => cz_i 0
    | 15 => cz_i 0
    | 16 => cz_r none
    | _ => cz_r none
  | 1 => fun k => match k with
    | 0 => cz_i 0
    | 1 => cz_i 0
    | 2 => cz_i 0
    | 3 => cz_i 0
    | 4 => cz_i 0
    | 5 => cz_i 0
    | 6 => cz_r none
    | 7 => cz_r none
    | 8 => cz_r none
    | 9 => cz_r none
    | _ => cz_r none
  | 2 => fun k => match k with
    | 0 => cz_i 0
    | 1 => cz_r none
    | _ => cz_i 0
  | 3 => fun k => match k with
    | 0 => cz_r none
    | 1 => cz_i 0
    | 2 => cz_i 0
    | 3 => cz_i 0
    | 4 => cz_i 0
    | 5 => cz_i 0
    | 6 => cz_r none
    | 7 => cz_r none
    | 8 => cz_r none
    | 9 => cz_r none
    | 10 => cz_r none
    | 11 => cz_r none
    | 12 => cz_r none
    | _ => cz_i 0
  | 4 => fun k => match k with
    | 0 => cz_r none
    | 1 => cz_r none
    | _ => cz_r none
  | 5 => fun k => match k with
    | 0 => cz_i 0
    | 1 => cz_r none
    | 2 => cz_i 0
    | 3 => cz_i 0
    | 4 => cz_i 0
    | 5 => cz_i 0
    | 6 => cz_r none
    | 7 => cz_r none
    | 8 => cz_r none
    | 9 => cz_r none
    | 10 => cz_r none
    | 11 => cz_i 0
    | 12 => cz_i 0
    | 13 => cz_i 0
    | 14 => cz_i 0
    | 15 => cz_i 0
    | 16 => cz_i 0
    | 17 => cz_j 0
    | 18 => cz_i 0
    | 19 => cz_i 0
    | 20 => cz_i 0
    | 21 => cz_r none
    | 22 => cz_r none
    | 23 => cz_i 0
    | 24 => cz_i 0
    | 25 => cz_i 0
    | 26 => cz_i 0
    | 27 => cz_i 0
    | 28 => cz_i 0
    | 29 => cz_i 0
    | 30 => cz_i 0
    | 31 => cz_i 0
    | 32 => cz_r none
    | 33 => cz_i 0
    | 34 => cz_i 0
    | 35 => cz_i 0
    | 36 => cz_i 0
    | 37 => cz_r none
    | 38 => cz_i 0
    | 39 => cz_r none
    | 40 => cz_i 0
    | 41 => cz_i 0
    | 42 => cz_i 0
    | 43 => cz_i 0
    | 44 => cz_i 0
    | 45 => cz_r none
    | 46 => cz_r none
    | 47 => cz_r none
    | _ => cz_r none
  | 6 => fun k => match k with
    | 0 => cz_r none
    | 1 => cz_i 0
    | 2 => cz_i 0
    | 3 => cz_i 0
    | 4 => cz_i 0
    | 5 => cz_i 0
    | 6 => cz_i 0
    | 7 => cz_i 0
    | 8 => cz_r none
    | 9 => cz_r none
    | _ => cz_i 0
  | 7 => fun k => match k with
    | 0 => cz_r none
    | 1 => cz_i 0
    | 2 => cz_i 0
    | _ => cz_i 0
  | 8 => fun k => match k with
    | 0 => cz_r none
    | 1 => cz_i 0
    | 2 => cz_i 0
    | _ => cz_i 0
  | 9 => fun k => match k with
    | 0 => cz_r none
    | 1 => cz_r none
    | 2 => cz_r none
    | 3 => cz_r none
    | 4 => cz_r none
    | 5 => cz_i 0
    | 6 => cz_i 0
    | _ => cz_i 0
  | 10 => fun k => match k with
    | 0 => cz_r none
    | _ => cz_i 0
  | 11 => fun k => match k with
    | 0 => cz_r none
    | 1 => cz_i 0
    | 2 => cz_i 0
    | _ => cz_i 0
  | 12 => fun k => match k with
    | 0 => cz_i 0
    | _ => cz_i 0
  | 13 => fun k => match k with
    | 0 => cz_i 0
    | _ => cz_i 0
  | 14 => fun k => match k with
    | 0 => cz_i 0
    | _ => cz_i 0
  | 15 => fun k => match k with
    | _ => cz_i 0
  | 16 => fun k => match k with
    | 0 => cz_r none
    | 1 => cz_i 0
    | 2 => cz_i 0
    | 3 => cz_i 0
    | 4 => cz_i 0
    | 5 => cz_i 0
    | 6 => cz_i 0
    | 7 => cz_i 0
    | 8 => cz_r none
    | 9 => cz_r none
    | _ => cz_r none
  | 17 => fun k => match k with
    | _ => cz_i 0
  | 18 => fun k => match k with
    | 0 => cz_r none
    | 1 => cz_i 0
    | 2 => cz_i 0
    | 3 => cz_i 0
    | 4 => cz_i 0
    | 5 => cz_i 0
    | 6 => cz_i 0
    | 7 => cz_i 0
    | 8 => cz_r none
    | 9 => cz_r none
    | 10 => cz_i 0
    | _ => cz_i 0
  | 19 => fun k => match k with
    | _ => cz_r none
  | 20 => fun k => match k with
    | _ => cz_i 0
  | 21 => fun k => match k with
    | 0 => cz_i 0
    | _ => cz_i 0
  | 22 => fun k => match k with
    | 0 => cz_i 0
    | 1 => cz_i 0
    | _ => cz_i 0
  | 23 => fun k => match k with
    | 0 => cz_r none
    | 1 => cz_r none
    | _ => cz_i 0
  | 24 => fun k => match k with
    | 0 => cz_r none
    | 1 => cz_r none
    | 2 => cz_r none
    | 3 => cz_r none
    | 4 => cz_r none
    | _ => cz_i 0
  | _ => fun _ => cz_i 0
theorem cz_df0 : ∀ k, k < 18 → cz_val (cz_df 0 k) = defaultValue (tyX1 k) := by
  intro k hk
  match k, hk with
  | 0, _ => rfl
  | 1, _ => rfl
  | 2, _ => rfl
  | 3, _ => rfl
  | 4, _ => rfl
  | 5, _ => rfl
  | 6, _ => rfl
  | 7, _ => rfl
  | 8, _ => rfl
  | 9, _ => rfl
  | 10, _ => rfl
  | 11, _ => rfl
  | 12, _ => rfl
  | 13, _ => rfl
  | 14, _ => rfl
  | 15, _ => rfl
  | 16, _ => rfl
  | 17, _ => rfl
  | k + 18, hk => exact absurd hk (by omega)
theorem cz_df1 : ∀ k, k < 11 → cz_val (cz_df 1 k) = defaultValue (tyX2 k) := by
  intro k hk
  match k, hk with
  | 0, _ => rfl
  | 1, _ => rfl
  | 2, _ => rfl
  | 3, _ => rfl
  | 4, _ => rfl
  | 5, _ => rfl
  | 6, _ => rfl
  | 7, _ => rfl
  | 8, _ => rfl
  | 9, _ => rfl
  | 10, _ => rfl
  | k + 11, hk => exact absurd hk (by omega)
theorem cz_df2 : ∀ k, k < 3 → cz_val (cz_df 2 k) = defaultValue (tyJ2 k) := by
  intro k hk
  match k, hk with
  | 0, _ => rfl
  | 1, _ => rfl
  | 2, _ => rfl
  | k + 3, hk => exact absurd hk (by omega)
theorem cz_df3 : ∀ k, k < 14 → cz_val (cz_df 3 k) = defaultValue (tyX3 k) := by
  intro k hk
  match k, hk with
  | 0, _ => rfl
  | 1, _ => rfl
  | 2, _ => rfl
  | 3, _ => rfl
  | 4, _ => rfl
  | 5, _ => rfl
  | 6, _ => rfl
  | 7, _ => rfl
  | 8, _ => rfl
  | 9, _ => rfl
  | 10, _ => rfl
  | 11, _ => rfl
  | 12, _ => rfl
  | 13, _ => rfl
  | k + 14, hk => exact absurd hk (by omega)
theorem cz_df4 : ∀ k, k < 3 → cz_val (cz_df 4 k) = defaultValue (tyX4 k) := by
  intro k hk
  match k, hk with
  | 0, _ => rfl
  | 1, _ => rfl
  | 2, _ => rfl
  | k + 3, hk => exact absurd hk (by omega)
theorem cz_df5 : ∀ k, k < 49 → cz_val (cz_df 5 k) = defaultValue (tyX5 k) := by
  intro k hk
  match k, hk with
  | 0, _ => rfl
  | 1, _ => rfl
  | 2, _ => rfl
  | 3, _ => rfl
  | 4, _ => rfl
  | 5, _ => rfl
  | 6, _ => rfl
  | 7, _ => rfl
  | 8, _ => rfl
  | 9, _ => rfl
  | 10, _ => rfl
  | 11, _ => rfl
  | 12, _ => rfl
  | 13, _ => rfl
  | 14, _ => rfl
  | 15, _ => rfl
  | 16, _ => rfl
  | 17, _ => rfl
  | 18, _ => rfl
  | 19, _ => rfl
  | 20, _ => rfl
  | 21, _ => rfl
  | 22, _ => rfl
  | 23, _ => rfl
  | 24, _ => rfl
  | 25, _ => rfl
  | 26, _ => rfl
  | 27, _ => rfl
  | 28, _ => rfl
  | 29, _ => rfl
  | 30, _ => rfl
  | 31, _ => rfl
  | 32, _ => rfl
  | 33, _ => rfl
  | 34, _ => rfl
  | 35, _ => rfl
  | 36, _ => rfl
  | 37, _ => rfl
  | 38, _ => rfl
  | 39, _ => rfl
  | 40, _ => rfl
  | 41, _ => rfl
  | 42, _ => rfl
  | 43, _ => rfl
  | 44, _ => rfl
  | 45, _ => rfl
  | 46, _ => rfl
  | 47, _ => rfl
  | 48, _ => rfl
  | k + 49, hk => exact absurd hk (by omega)
theorem cz_df6 : ∀ k, k < 11 → cz_val (cz_df 6 k) = defaultValue (tyX7 k) := by
  intro k hk
  match k, hk with
  | 0, _ => rfl
  | 1, _ => rfl
  | 2, _ => rfl
  | 3, _ => rfl
  | 4, _ => rfl
  | 5, _ => rfl
  | 6, _ => rfl
  | 7, _ => rfl
  | 8, _ => rfl
  | 9, _ => rfl
  | 10, _ => rfl
  | k + 11, hk => exact absurd hk (by omega)
theorem cz_df7 : ∀ k, k < 4 → cz_val (cz_df 7 k) = defaultValue (tyJ7 k) := by
  intro k hk
  match k, hk with
  | 0, _ => rfl
  | 1, _ => rfl
  | 2, _ => rfl
  | 3, _ => rfl
  | k + 4, hk => exact absurd hk (by omega)
theorem cz_df8 : ∀ k, k < 4 → cz_val (cz_df 8 k) = defaultValue (tyJ8 k) := by
  intro k hk
  match k, hk with
  | 0, _ => rfl
  | 1, _ => rfl
  | 2, _ => rfl
  | 3, _ => rfl
  | k + 4, hk => exact absurd hk (by omega)
theorem cz_df9 : ∀ k, k < 8 → cz_val (cz_df 9 k) = defaultValue (tyX8 k) := by
  intro k hk
  match k, hk with
  | 0, _ => rfl
  | 1, _ => rfl
  | 2, _ => rfl
  | 3, _ => rfl
  | 4, _ => rfl
  | 5, _ => rfl
  | 6, _ => rfl
  | 7, _ => rfl
  | k + 8, hk => exact absurd hk (by omega)
theorem cz_df10 : ∀ k, k < 2 → cz_val (cz_df 10 k) = defaultValue (tyX10 k) := by
  intro k hk
  match k, hk with
  | 0, _ => rfl
  | 1, _ => rfl
  | k + 2, hk => exact absurd hk (by omega)
theorem cz_df11 : ∀ k, k < 4 → cz_val (cz_df 11 k) = defaultValue (tyX11 k) := by
  intro k hk
  match k, hk with
  | 0, _ => rfl
  | 1, _ => rfl
  | 2, _ => rfl
  | 3, _ => rfl
  | k + 4, hk => exact absurd hk (by omega)
theorem cz_df12 : ∀ k, k < 2 → cz_val (cz_df 12 k) = defaultValue (tyX15 k) := by
  intro k hk
  match k, hk with
  | 0, _ => rfl
  | 1, _ => rfl
  | k + 2, hk => exact absurd hk (by omega)
theorem cz_df13 : ∀ k, k < 2 → cz_val (cz_df 13 k) = defaultValue (tyX18 k) := by
  intro k hk
  match k, hk with
  | 0, _ => rfl
  | 1, _ => rfl
  | k + 2, hk => exact absurd hk (by omega)
theorem cz_df14 : ∀ k, k < 2 → cz_val (cz_df 14 k) = defaultValue (tyX16 k) := by
  intro k hk
  match k, hk with
  | 0, _ => rfl
  | 1, _ => rfl
  | k + 2, hk => exact absurd hk (by omega)
theorem cz_df15 : ∀ k, k < 1 → cz_val (cz_df 15 k) = defaultValue (tyX17 k) := by
  intro k hk
  match k, hk with
  | 0, _ => rfl
  | k + 1, hk => exact absurd hk (by omega)
theorem cz_df16 : ∀ k, k < 11 → cz_val (cz_df 16 k) = defaultValue (tyX19 k) := by
  intro k hk
  match k, hk with
  | 0, _ => rfl
  | 1, _ => rfl
  | 2, _ => rfl
  | 3, _ => rfl
  | 4, _ => rfl
  | 5, _ => rfl
  | 6, _ => rfl
  | 7, _ => rfl
  | 8, _ => rfl
  | 9, _ => rfl
  | 10, _ => rfl
  | k + 11, hk => exact absurd hk (by omega)
theorem cz_df17 : ∀ k, k < 1 → cz_val (cz_df 17 k) = defaultValue (tyX20 k) := by
  intro k hk
  match k, hk with
  | 0, _ => rfl
  | k + 1, hk => exact absurd hk (by omega)
theorem cz_df18 : ∀ k, k < 12 → cz_val (cz_df 18 k) = defaultValue (tyX21 k) := by
  intro k hk
  match k, hk with
  | 0, _ => rfl
  | 1, _ => rfl
  | 2, _ => rfl
  | 3, _ => rfl
  | 4, _ => rfl
  | 5, _ => rfl
  | 6, _ => rfl
  | 7, _ => rfl
  | 8, _ => rfl
  | 9, _ => rfl
  | 10, _ => rfl
  | 11, _ => rfl
  | k + 12, hk => exact absurd hk (by omega)
theorem cz_df19 : ∀ k, k < 1 → cz_val (cz_df 19 k) = defaultValue (tyX23 k) := by
  intro k hk
  match k, hk with
  | 0, _ => rfl
  | k + 1, hk => exact absurd hk (by omega)
theorem cz_df20 : ∀ k, k < 1 → cz_val (cz_df 20 k) = defaultValue (tyX24 k) := by
  intro k hk
  match k, hk with
  | 0, _ => rfl
  | k + 1, hk => exact absurd hk (by omega)
theorem cz_df21 : ∀ k, k < 2 → cz_val (cz_df 21 k) = defaultValue (tyX25 k) := by
  intro k hk
  match k, hk with
  | 0, _ => rfl
  | 1, _ => rfl
  | k + 2, hk => exact absurd hk (by omega)
theorem cz_df22 : ∀ k, k < 3 → cz_val (cz_df 22 k) = defaultValue (tyX26 k) := by
  intro k hk
  match k, hk with
  | 0, _ => rfl
  | 1, _ => rfl
  | 2, _ => rfl
  | k + 3, hk => exact absurd hk (by omega)
theorem cz_df23 : ∀ k, k < 3 → cz_val (cz_df 23 k) = defaultValue (tyX27 k) := by
  intro k hk
  match k, hk with
  | 0, _ => rfl
  | 1, _ => rfl
  | 2, _ => rfl
  | k + 3, hk => exact absurd hk (by omega)
theorem cz_df24 : ∀ k, k < 0 → cz_val (cz_df 24 k) = defaultValue (tyJ16 k) := fun k hk => absurd hk (Nat.not_lt_zero k)
theorem cz_dfs : ∀ (i : Nat) (q : vw_C), cz_cl[i]? = some q → ∃ ty : Nat → FieldType, (∀ k, k < q.2.2 → parseFieldDescriptor (q.2.1 k).2.2.1 = some (ty k)) ∧ ∀ k, k < q.2.2 → cz_val (cz_df i k) = defaultValue (ty k) := by
  intro i q h
  match i, h with
  | 0, h => cases h; exact ⟨tyX1, tyX1_ok, cz_df0⟩
  | 1, h => cases h; exact ⟨tyX2, tyX2_ok, cz_df1⟩
  | 2, h => cases h; exact ⟨tyJ2, tyJ2_ok, cz_df2⟩
  | 3, h => cases h; exact ⟨tyX3, tyX3_ok, cz_df3⟩
  | 4, h => cases h; exact ⟨tyX4, tyX4_ok, cz_df4⟩
  | 5, h => cases h; exact ⟨tyX5, tyX5_ok, cz_df5⟩
  | 6, h => cases h; exact ⟨tyX7, tyX7_ok, cz_df6⟩
  | 7, h => cases h; exact ⟨tyJ7, tyJ7_ok, cz_df7⟩
  | 8, h => cases h; exact ⟨tyJ8, tyJ8_ok, cz_df8⟩
  | 9, h => cases h; exact ⟨tyX8, tyX8_ok, cz_df9⟩
  | 10, h => cases h; exact ⟨tyX10, tyX10_ok, cz_df10⟩
  | 11, h => cases h; exact ⟨tyX11, tyX11_ok, cz_df11⟩
  | 12, h => cases h; exact ⟨tyX15, tyX15_ok, cz_df12⟩
  | 13, h => cases h; exact ⟨tyX18, tyX18_ok, cz_df13⟩
  | 14, h => cases h; exact ⟨tyX16, tyX16_ok, cz_df14⟩
  | 15, h => cases h; exact ⟨tyX17, tyX17_ok, cz_df15⟩
  | 16, h => cases h; exact ⟨tyX19, tyX19_ok, cz_df16⟩
  | 17, h => cases h; exact ⟨tyX20, tyX20_ok, cz_df17⟩
  | 18, h => cases h; exact ⟨tyX21, tyX21_ok, cz_df18⟩
  | 19, h => cases h; exact ⟨tyX23, tyX23_ok, cz_df19⟩
  | 20, h => cases h; exact ⟨tyX24, tyX24_ok, cz_df20⟩
  | 21, h => cases h; exact ⟨tyX25, tyX25_ok, cz_df21⟩
  | 22, h => cases h; exact ⟨tyX26, tyX26_ok, cz_df22⟩
  | 23, h => cases h; exact ⟨tyX27, tyX27_ok, cz_df23⟩
  | 24, h => cases h; exact ⟨tyJ16, fun k hk => absurd hk (Nat.not_lt_zero k), cz_df24⟩
  | i + 25, h => simp [cz_cl] at h
def cz_newo (h : cz_H) (ci n : Nat) (k : Option Nat → cz_H → cz_Z) : cz_Z := cz_mk h (.inl (ci, cz_df ci)) n k
def cz_cast (h : cz_H) (r : Option Nat) (cs : List Nat) (k : cz_Z) : cz_Z := match r with
  | none => k
  | some a => match h.2.2.2 a with
    | some (.inl o) => if o.1 ∈ cs then k else none
    | _ => none
/-- instanceof of an object that is one -/
def cz_inst (h : cz_H) (r : Option Nat) (cs : List Nat) (k : Int32 → cz_Z) : cz_Z := match r with
  | none => k 0
  | some a => match h.2.2.2 a with
    | some (.inl o) => if o.1 ∈ cs then k 1 else none
    | _ => none
def cz_castA (h : cz_H) (r : Option Nat) (kd : Nat) (k : cz_Z) : cz_Z := match r with
  | none => k
  | some a => match h.2.2.2 a with
    | some (.inr y) => if y.1 = kd then k else none
    | _ => none
def cz_cs (cs : List Nat) (nmc : String) : Prop := ∀ ci ∈ cs, ∃ r : vw_C, cz_cl[ci]? = some r ∧ (r.1 = nmc ∨ Cond.castable r.1 nmc ∈ lw_tbl)
/-- System.arraycopy of ints or bytes -/
def cz_acp (h : cz_H) (rs : Option Nat) (sp : Int32) (rd : Option Nat) (dp n : Int32) (k : cz_H → cz_Z) : cz_Z := cz_arr h rs (fun _ k0 y0 => cz_arr h rd (fun a k1 y1 => match y0, y1 with
  | (n0, .inl f), (n1, .inl g) => if (k0 = k1 ∧ (k1 = 0 ∨ k1 = 1)) ∧ h.1.1 ≤ a then
      (if (¬ sp < 0 ∧ ¬ dp < 0 ∧ ¬ n < 0) ∧ sp.toNatClampNeg + n.toNatClampNeg ≤ n0 ∧ dp.toNatClampNeg + n.toNatClampNeg ≤ n1 then k (cz_set h a (.inr (k1, n1, .inl (va_cpy f g sp.toNatClampNeg dp.toNatClampNeg n.toNatClampNeg)))) else none) else none
  | _, _ => none))
/-- .. of references to objects -/
noncomputable def cz_acq (h : cz_H) (rs : Option Nat) (sp : Int32) (rd : Option Nat) (dp n : Int32) (k : cz_H → cz_Z) : cz_Z := cz_arr h rs (fun _ k0 y0 => cz_arr h rd (fun a k1 y1 => match y0, y1 with
  | (n0, .inr (.inr (.inr (.inr f)))), (n1, .inr (.inr (.inr (.inr g)))) => if (k0 = 4 ∧ k1 = 4) ∧ h.1.1 ≤ a then
      (if (¬ sp < 0 ∧ ¬ dp < 0 ∧ ¬ n < 0) ∧ sp.toNatClampNeg + n.toNatClampNeg ≤ n0 ∧ dp.toNatClampNeg + n.toNatClampNeg ≤ n1 then
        @ite _ (∀ i y : Nat, i < n.toNatClampNeg → f (sp.toNatClampNeg + i) = some y → ∃ o, h.2.2.2 y = some (.inl o)) (Classical.propDecidable _) (k (cz_set h a (.inr (4, n1, cz_qa (va_cpy f g sp.toNatClampNeg dp.toNatClampNeg n.toNatClampNeg))))) none else none) else none
  | _, _ => none))
theorem cz_rep (n : Nat) (v : Value) : Array.replicate n v = (arrV 0 n (fun _ => v)).slots := congrArg Cell.slots (arrV_new 0 n v)
section CZJ
variable {K : cz_K} {D : cz_D} {d : Nat} {h0 : cz_H} {oh : cz_O × cz_H} {nL : Nat} {cc : ByteArray} {own nm : String} {ret : Option FieldType} {tb : List ExceptionTableEntry} {z z1 z2 : cz_Z} {h : cz_H} {pc : Nat} {L L' : List (Nat × cz_v)} {st : List cz_v}
theorem cz_objcell (S : cz_S K D h0 cc nL own ret nm tb) {H : Heap} {a ci : Nat} {V : Nat → cz_v} (hR : cz_R D h H) (hc : h.2.2.2 a = some (.inl (ci, V))) {r : vw_C} (hcl : cz_cl[ci]? = some r) : ∃ cell : Cell, H[a]? = some cell ∧ cell.vm.isStatics = false ∧ K.2.2.2.1.vm.findClass r.1 = some cell.cls := by
  obtain ⟨r2, cell, g1, g2, g3, g4, g5, g6, g7⟩ := hR.2.2.2.2.2 a _ hc
  cases Option.some.inj (g1.symm.trans hcl)
  exact ⟨cell, g2, g4, by rw [g3]; exact (S.2.2.2.2.2.1.1.1 ci _ hcl).2.1⟩
theorem ct_cast {r : Option Nat} {cs : List Nat} {nmc : String} {idx : Nat} (S : cz_S K D h0 cc nL own ret nm tb) (hlk : Cond.classLink own idx nmc ∈ lw_all) (hcs : cz_cs cs nmc) (dg : decode cc pc = .ok (.checkcast idx, 3)) (k : cz_T K D d h0 oh nL z h (pc + 3) L (cz_r r :: st)) : cz_T K D d h0 oh nL (cz_cast h r cs z) h pc L (cz_r r :: st) := by
  intro hz H locs ls hI hl
  unfold cz_cast at hz
  split at hz
  · exact lv_castN S.1 S.2.1 dg (k hz H locs ls hI hl)
  · rename_i a
    split at hz
    · rename_i o hc
      split at hz
      · rename_i hin
        obtain ⟨q, hcl, he⟩ := hcs _ hin
        have hcell := cz_objcell S hI.1 hc hcl
        rcases he with rfl | he
        · exact va_castS S.1 S.2.1 S.2.2.2.1 (S.2.2.2.2.1 _ hlk) (S.2.2.2.2.2.1.1.1 _ _ hcl).2 hcell dg (k hz H locs ls hI hl)
        · exact va_castY S.1 S.2.1 S.2.2.2.1 (S.2.2.2.2.1 _ hlk) (S.2.2.2.2.2.1.2.2.1 _ he rfl) hcell dg (k hz H locs ls hI hl)
      · cases hz
    · cases hz
theorem ct_inst {r : Option Nat} {cs : List Nat} {nmc : String} {idx : Nat} {kk : Int32 → cz_Z} (S : cz_S K D h0 cc nL own ret nm tb) (hlk : Cond.classLink own idx nmc ∈ lw_all) (hcs : cz_cs cs nmc) (dg : decode cc pc = .ok (.instanceof idx, 3)) (k : ∀ x : Int32, cz_T K D d h0 oh nL (kk x) h (pc + 3) L (cz_i x :: st)) : cz_T K D d h0 oh nL (cz_inst h r cs kk) h pc L (cz_r r :: st) := by
  intro hz H locs ls hI hl
  unfold cz_inst at hz
  split at hz
  · exact lv_instN S.1 S.2.1 dg (k _ hz H locs ls hI hl)
  · rename_i a
    split at hz
    · rename_i o hc
      split at hz
      · rename_i hin
        obtain ⟨q, hcl, he⟩ := hcs _ hin
        have hcell := cz_objcell S hI.1 hc hcl
        rcases he with rfl | he
        · exact va_instS S.1 S.2.1 S.2.2.2.1 (S.2.2.2.2.1 _ hlk) (S.2.2.2.2.2.1.1.1 _ _ hcl).2 hcell dg (k _ hz H locs ls hI hl)
        · exact va_instY S.1 S.2.1 S.2.2.2.1 (S.2.2.2.2.1 _ hlk) (S.2.2.2.2.2.1.2.2.1 _ he rfl) hcell dg (k _ hz H locs ls hI hl)
      · cases hz
    · cases hz
theorem ct_castA {r : Option Nat} {idx : Nat} (S : cz_S K D h0 cc nL own ret nm tb) (hlk : Cond.classLink own idx "[Ljava/lang/Object;" ∈ lw_all) (dg : decode cc pc = .ok (.checkcast idx, 3)) (k : cz_T K D d h0 oh nL z h (pc + 3) L (cz_r r :: st)) : cz_T K D d h0 oh nL (cz_castA h r 4 z) h pc L (cz_r r :: st) := by
  intro hz H locs ls hI hl
  unfold cz_castA at hz
  split at hz
  · exact lv_castN S.1 S.2.1 dg (k hz H locs ls hI hl)
  · rename_i a
    split at hz
    · rename_i y hc
      split at hz
      · rename_i hkd
        obtain ⟨cell, g2, g3, g4, g5, g6, g7, g8⟩ := hI.1.2.2.2.2.2 a _ hc
        have kk := k hz H locs ls hI hl
        have hnm : K.2.2.2.1.vm.findClass "[Ljava/lang/Object;" = some cell.cls := by
          rw [g3, hkd]
          exact va_nmO (S.2.2.2.2.2.1.1.2 4 _ rfl).2 (by decide)
        intro TT hT X
        obtain ⟨vm', X', sst⟩ := X.checkcastYes S.1 S.2.2.2.1 (S.2.2.2.2.1 _ hlk) (by rw [hT]; exact g2) g4 hnm (va_asg _ _) (g := F0 K.2.2.2.2.1 pc ls (.ref a :: st.map cz_val)) rfl rfl (by rw [S.2.1]; exact dg)
        obtain ⟨t, a1, b1⟩ := kk (TT.setVm vm') hT X'
        exact ⟨t, sst t a1, b1⟩
      · cases hz
    · cases hz
/-- a static field -/
theorem ct_gets {idx i : Nat} {C n dd : String} {v : cz_v} (S : cz_S K D h0 cc nL own ret nm tb) (hq : (cz_sts D)[i]? = some (C, n, dd, v)) (hlk : Cond.fieldLink own idx C n dd ∈ lw_all) (dg : decode cc pc = .ok (.getstatic idx, 3)) (k : cz_T K D d h0 oh nL z h (pc + 3) L (v :: st)) : cz_T K D d h0 oh nL z h pc L st := by
  intro hz H locs ls hI hl
  have hZ := S.2.2.2.2.2.1.2.2.2.2.1 _ (List.mem_of_getElem? hq)
  obtain ⟨cf, kf, fi, f, a, cell, h1, h2, h3, h4, h5, h6, h7, h8⟩ := hZ
  have ha : a < K.2.2.2.1.heap.size := (Array.getElem?_eq_some_iff.mp h5).1
  have hc : H[a]? = some cell := by rw [hI.2.1.old ha (Nat.lt_of_not_le h8)]; exact h5
  exact W.gets S.1 S.2.1 S.2.2.2.1 (S.2.2.2.2.1 _ hlk) h1 h2 h3 h4 hc (fun q => by rw [q] at h6; cases h6) h7 rfl dg (k hz H locs ls hI hl)
/-- a String constant -/
theorem ct_ldcS {idx i : Nat} {tx : String} (S : cz_S K D h0 cc nL own ret nm tb) (hq : cz_strs[i]? = some (own, idx, tx)) (dg : decode cc pc = .ok (.ldc idx, 2)) (k : cz_T K D d h0 oh nL z h (pc + 2) L (cz_r (h.1.2.2.2 i) :: st)) : cz_T K D d h0 oh nL z h pc L st := by
  intro hz H locs ls hI hl
  obtain ⟨a, e, hr⟩ := S.2.2.2.2.2.1.2.2.2.2.2.1 i _ hq
  have kk := k hz H locs ls hI hl
  rw [hI.1.1, e] at kk
  exact va_ldcS S.1 S.2.1 S.2.2.2.1 hr dg kk
/-- Object[].class -/
theorem ct_ldcM {idx : Nat} (S : cz_S K D h0 cc nL own ret nm tb) (hlk : Cond.classLink own idx "[Ljava/lang/Object;" ∈ lw_all) (dg : decode cc pc = .ok (.ldc idx, 2)) (k : cz_T K D d h0 oh nL z h (pc + 2) L (cz_r (h.1.2.2.2 31) :: st)) : cz_T K D d h0 oh nL z h pc L st := by
  intro hz H locs ls hI hl
  obtain ⟨a, e, hr⟩ := S.2.2.2.2.2.1.2.2.2.2.2.2.1
  have kk := k hz H locs ls hI hl
  rw [hI.1.1, e] at kk
  exact va_ldcM S.1 S.2.1 S.2.2.2.1 (S.2.2.2.2.1 _ hlk) hr dg kk
/-- Object.<init> -/
theorem ct_objInit {idx : Nat} {r : Option Nat} (S : cz_S K D h0 cc nL own ret nm tb) (hlk : Cond.methodLink own idx Lib.objectInit ∈ lw_all) (hin : Cond.instanceMethod Lib.objectInit ∈ lw_all) (hco : Cond.code Lib.objectInit ⟨#[0xb1]⟩ 1 none ∈ lw_all) (hd : 1 ≤ d) (hst : (st.map cz_cat).sum ≤ 16) (dg : decode cc pc = .ok (.invokespecial idx, 3)) (k : cz_T K D d h0 oh nL z h (pc + 3) L st) : cz_T K D d h0 oh nL (match r with | none => none | some _ => z) h pc L (cz_r r :: st) := by
  intro hz H locs ls hI hl
  cases r with
  | none => cases hz
  | some a =>
    refine W.objInit S.1 S.2.1 S.2.2.2.1 (S.2.2.2.2.1 _ hlk) (S.2.2.2.2.1 _ hin) (S.2.2.2.2.1 _ hco) rfl (by rw [S.2.2.1]; exact hl.1) rfl dg hd ?_ (k hz H locs ls hI hl)
    have e : ((st.map cz_val).map fun v => v.category).sum = (st.map cz_cat).sum := by
      rw [List.map_map]
      congr 1
      apply List.map_congr_left
      intro v _
      exact cz_cat_val v
    show 2 * 0 + ((st.map cz_val).map fun v => v.category).sum + 12 ≤ 64 * d
    rw [e]
    omega
/-- a new cell has been pushed -/
theorem cz_wnew {H H' : Heap} {locs : List Loc} {ls : Array Slot} {n pc' cells slots : Nat} {x : cz_C} {cell : Cell} (hI : cz_I K D h0 h H locs) (hl : lv_has ls nL (cz_lm L)) (e1 : H'[h.2.1]? = some cell) (hx : cz_at D h.2.1 x H') (hn : cell.slots.size = n) (e2 : H'.size = h.2.1 + 1) (e3 : ∀ q, q < h.2.1 → H'[q]? = H[q]?) (hc : h.2.1 + 1 ≤ h.1.2.1) (hs : h.2.2.1 + n ≤ h.1.2.2.1) (hz : z = some oh) (k : cz_T K D d h0 oh nL z (cz_new h x n) pc' L st) :
    cz_W K (cz_rm d h0) H' locs cells slots (cz_MQ K D h0 oh) (F0 K.2.2.2.2.1 pc' ls (st.map cz_val)) := by
  obtain ⟨hR, hX, hu, hlocs⟩ := hI
  have hX1 : cz_X D.2.2.1 H H' := cz_X.push hR.2.1 e2 e3
  refine cz_tight (k hz H' locs ls ⟨hR.push e2 e3 hx hc hs, hX.tr hX1, ?_, hlocs⟩ hl)
  rw [cz_sl_push hX1 (by rw [e2, hR.2.1]) (by rw [hR.2.1]; exact e1) _ hX.1, hn]
  show _ ≤ h.2.2.1 + n
  omega
theorem cz_roomC (S : cz_S K D h0 cc nL own ret nm tb) {H : Heap} {locs : List Loc} {n : Nat} (hI : cz_I K D h0 h H locs) (hc : h.2.1 + 1 ≤ h.1.2.1) (hs : h.2.2.1 + n ≤ h.1.2.2.1) : H.size - K.2.2.2.1.heap.size + 1 ≤ (cz_rm d h0).cells ∧ cz_sl K.2.2.2.1.heap.size H + n ≤ (cz_rm d h0).slots := by
  obtain ⟨hR, hX, hu, hlocs⟩ := hI
  have hR0 := S.2.2.2.2.2.2.2.2.2.2
  have e1 : (cz_rm d h0).cells = h0.1.2.1 - h0.2.1 := rfl
  have e2 : (cz_rm d h0).slots = h0.1.2.2.1 - h0.2.2.1 := rfl
  rw [e1, e2, hR0.1, hR.2.1, hR0.2.1]
  rw [hR.1] at hc hs
  have h3 := hX.1
  rw [hR0.2.1, hR.2.1] at h3
  have h4 : h0.2.2.1 + cz_sl K.2.2.2.1.heap.size H ≤ h.2.2.1 := hu
  rw [hR0.2.1] at h4
  omega
theorem ct_newo {idx ci n : Nat} {C : String} {TT : u_T} {kk : Option Nat → cz_H → cz_Z} (S : cz_S K D h0 cc nL own ret nm tb) (h24 : ¬ ci = 24) (hcl : cz_cl[ci]? = some (C, TT, n)) (hlk : Cond.classLink own idx C ∈ lw_all) (dg : decode cc pc = .ok (.new idx, 3)) (k : ∀ (r : Option Nat) (h' : cz_H), cz_T K D d h0 oh nL (kk r h') h' (pc + 3) L (cz_r r :: st)) : cz_T K D d h0 oh nL (cz_newo h ci n kk) h pc L st := by
  intro hz H locs ls hI hl
  unfold cz_newo cz_mk at hz
  split at hz
  · rename_i hroom
    obtain ⟨hr1, hr2⟩ := cz_roomC (d := d) S hI hroom.1 hroom.2
    have hck := cz_cks ci _ hcl
    have hins := hck.2.2.1.resolve_left h24
    obtain ⟨hSl, hfc, kC, hkC, hkind⟩ := S.2.2.2.2.2.1.1.1 ci _ hcl
    obtain ⟨ty, hty, hdf⟩ := cz_dfs ci _ hcl
    refine W.newcK S.1 S.2.1 S.2.2.2.1 (S.2.2.2.2.1 _ hlk) (S.2.2.2.2.1 _ hins) (S.2.2.2.2.1 _ hck.2.2.2.1) rfl dg hr1 hr2 hfc (h := h.2.1) hI.1.2.1 fun H' kC2 hkC2 e1 e2 e3 => ?_
    have hb := u_born (o := h.2.1) (H := H') ty S.2.2.2.2.1 hck.1 ⟨hSl, hfc, kC, hkC, hkind⟩ hkC2 e1 hty
    obtain ⟨cell, b1, b2, b3, b4⟩ := hb
    cases Option.some.inj (e1.symm.trans b1)
    obtain ⟨cC9, kC9, hfc9, hk9, -, hn9⟩ := Cond.instantiable_spec (S.2.2.2.2.1 _ hins)
    cases hfc.symm.trans hfc9
    cases hkC2.symm.trans hk9
    refine cz_wnew (st := cz_r (some h.2.1) :: st) (x := .inl (ci, cz_df ci)) hI hl e1 ⟨_, _, hcl, e1, b2, rfl, (fun q => by cases q), fun _ => rfl, fun q hq _ => ?_⟩ ?_ e2 e3 hroom.1 hroom.2 hz (k _ _)
    · rw [b4 q hq, hdf q hq]
    · show (kC2.instanceTypes.map defaultValue).size = n
      rw [Array.size_map]
      exact hn9.2.2
  · cases hz
theorem ct_newi_int {n : Int32} {kk : Option Nat → cz_H → cz_Z} (S : cz_S K D h0 cc nL own ret nm tb) (dg : decode cc pc = .ok (.newarray .int, 2)) (k : ∀ (r : Option Nat) (h' : cz_H), cz_T K D d h0 oh nL (kk r h') h' (pc + 2) L (cz_r r :: st)) : cz_T K D d h0 oh nL (cz_newi h 0 n kk) h pc L (cz_i n :: st) := by
  intro hz H locs ls hI hl
  unfold cz_newi cz_mk at hz
  split at hz
  · cases hz
  · rename_i hn
    split at hz
    · rename_i hroom
      obtain ⟨hr1, hr2⟩ := cz_roomC (d := d) S hI hroom.1 hroom.2
      have hb : n.toNatClampNeg * componentBytes .int ≤ 536870912 := by
        have h1 := hroom.2
        rw [hI.1.1] at h1
        have h2 := S.2.2.2.2.2.1.2.2.2.2.2.2.2.1
        have h3 : componentBytes .int ≤ 8 := by decide
        have h4 := Nat.mul_le_mul_left n.toNatClampNeg h3
        omega
      refine W.newa (atype := .int) S.1 S.2.1 (S.2.2.2.2.1 _ q263) rfl dg rfl hn hb hr1 hr2 fun cA kA comp f1 f2 f3 => ?_
      have hnm : K.2.2.2.1.vm.findClass ("[" ++ (FieldType.int).toString) = some (D.2.1 0) := (S.2.2.2.2.2.1.1.2 0 _ rfl).2
      cases hnm.symm.trans f1
      rw [hI.1.2.1]
      have e1 : (H.push ({ cls := D.2.1 0, slots := Array.replicate n.toNatClampNeg (defaultValue (newarray.typeOf .int)), vm := .none } : Cell))[h.2.1]? = some { cls := D.2.1 0, slots := Array.replicate n.toNatClampNeg (defaultValue (newarray.typeOf .int)), vm := .none } := by rw [← hI.1.2.1]; simp
      refine cz_wnew (st := cz_r (some h.2.1) :: st) (x := .inr (0, n.toNatClampNeg, .inl (fun _ => 0))) hI hl e1 ⟨_, e1, rfl, rfl, (fun q => by cases q), fun _ => rfl, ?_, ?_⟩ (by simp) (by simp; exact hI.1.2.1) (fun q hq => by rw [Array.getElem?_push, if_neg (by rw [hI.1.2.1]; exact Nat.ne_of_lt hq)]) hroom.1 hroom.2 hz (k _ _)
      · exact cz_ar.of (cz_rep n.toNatClampNeg (.int 0))
      · intro q; cases q
    · cases hz
theorem ct_newi_byte {n : Int32} {kk : Option Nat → cz_H → cz_Z} (S : cz_S K D h0 cc nL own ret nm tb) (dg : decode cc pc = .ok (.newarray .byte, 2)) (k : ∀ (r : Option Nat) (h' : cz_H), cz_T K D d h0 oh nL (kk r h') h' (pc + 2) L (cz_r r :: st)) : cz_T K D d h0 oh nL (cz_newi h 1 n kk) h pc L (cz_i n :: st) := by
  intro hz H locs ls hI hl
  unfold cz_newi cz_mk at hz
  split at hz
  · cases hz
  · rename_i hn
    split at hz
    · rename_i hroom
      obtain ⟨hr1, hr2⟩ := cz_roomC (d := d) S hI hroom.1 hroom.2
      have hb : n.toNatClampNeg * componentBytes .byte ≤ 536870912 := by
        have h1 := hroom.2
        rw [hI.1.1] at h1
        have h2 := S.2.2.2.2.2.1.2.2.2.2.2.2.2.1
        have h3 : componentBytes .byte ≤ 8 := by decide
        have h4 := Nat.mul_le_mul_left n.toNatClampNeg h3
        omega
      refine W.newa (atype := .byte) S.1 S.2.1 (S.2.2.2.2.1 _ q199) rfl dg rfl hn hb hr1 hr2 fun cA kA comp f1 f2 f3 => ?_
      have hnm : K.2.2.2.1.vm.findClass ("[" ++ (FieldType.byte).toString) = some (D.2.1 1) := (S.2.2.2.2.2.1.1.2 1 _ rfl).2
      cases hnm.symm.trans f1
      rw [hI.1.2.1]
      have e1 : (H.push ({ cls := D.2.1 1, slots := Array.replicate n.toNatClampNeg (defaultValue (newarray.typeOf .byte)), vm := .none } : Cell))[h.2.1]? = some { cls := D.2.1 1, slots := Array.replicate n.toNatClampNeg (defaultValue (newarray.typeOf .byte)), vm := .none } := by rw [← hI.1.2.1]; simp
      refine cz_wnew (st := cz_r (some h.2.1) :: st) (x := .inr (1, n.toNatClampNeg, .inl (fun _ => 0))) hI hl e1 ⟨_, e1, rfl, rfl, (fun q => by cases q), fun _ => rfl, ?_, ?_⟩ (by simp) (by simp; exact hI.1.2.1) (fun q hq => by rw [Array.getElem?_push, if_neg (by rw [hI.1.2.1]; exact Nat.ne_of_lt hq)]) hroom.1 hroom.2 hz (k _ _)
      · exact cz_ar.of (cz_rep n.toNatClampNeg (.int 0))
      · intro _ n2 f2 e j hj; cases e; rfl
    · cases hz
theorem ct_newi_bool {n : Int32} {kk : Option Nat → cz_H → cz_Z} (S : cz_S K D h0 cc nL own ret nm tb) (dg : decode cc pc = .ok (.newarray .boolean, 2)) (k : ∀ (r : Option Nat) (h' : cz_H), cz_T K D d h0 oh nL (kk r h') h' (pc + 2) L (cz_r r :: st)) : cz_T K D d h0 oh nL (cz_newi h 2 n kk) h pc L (cz_i n :: st) := by
  intro hz H locs ls hI hl
  unfold cz_newi cz_mk at hz
  split at hz
  · cases hz
  · rename_i hn
    split at hz
    · rename_i hroom
      obtain ⟨hr1, hr2⟩ := cz_roomC (d := d) S hI hroom.1 hroom.2
      have hb : n.toNatClampNeg * componentBytes .boolean ≤ 536870912 := by
        have h1 := hroom.2
        rw [hI.1.1] at h1
        have h2 := S.2.2.2.2.2.1.2.2.2.2.2.2.2.1
        have h3 : componentBytes .boolean ≤ 8 := by decide
        have h4 := Nat.mul_le_mul_left n.toNatClampNeg h3
        omega
      refine W.newa (atype := .boolean) S.1 S.2.1 (S.2.2.2.2.1 _ q2067) rfl dg rfl hn hb hr1 hr2 fun cA kA comp f1 f2 f3 => ?_
      have hnm : K.2.2.2.1.vm.findClass ("[" ++ (FieldType.boolean).toString) = some (D.2.1 2) := (S.2.2.2.2.2.1.1.2 2 _ rfl).2
      cases hnm.symm.trans f1
      rw [hI.1.2.1]
      have e1 : (H.push ({ cls := D.2.1 2, slots := Array.replicate n.toNatClampNeg (defaultValue (newarray.typeOf .boolean)), vm := .none } : Cell))[h.2.1]? = some { cls := D.2.1 2, slots := Array.replicate n.toNatClampNeg (defaultValue (newarray.typeOf .boolean)), vm := .none } := by rw [← hI.1.2.1]; simp
      refine cz_wnew (st := cz_r (some h.2.1) :: st) (x := .inr (2, n.toNatClampNeg, .inl (fun _ => 0))) hI hl e1 ⟨_, e1, rfl, rfl, (fun q => by cases q), fun _ => rfl, ?_, ?_⟩ (by simp) (by simp; exact hI.1.2.1) (fun q hq => by rw [Array.getElem?_push, if_neg (by rw [hI.1.2.1]; exact Nat.ne_of_lt hq)]) hroom.1 hroom.2 hz (k _ _)
      · exact cz_ar.of (cz_rep n.toNatClampNeg (.int 0))
      · intro q; cases q
    · cases hz
theorem ct_newj {n : Int32} {kk : Option Nat → cz_H → cz_Z} (S : cz_S K D h0 cc nL own ret nm tb) (dg : decode cc pc = .ok (.newarray .long, 2)) (k : ∀ (r : Option Nat) (h' : cz_H), cz_T K D d h0 oh nL (kk r h') h' (pc + 2) L (cz_r r :: st)) : cz_T K D d h0 oh nL (cz_newj h n kk) h pc L (cz_i n :: st) := by
  intro hz H locs ls hI hl
  unfold cz_newj cz_mk at hz
  split at hz
  · cases hz
  · rename_i hn
    split at hz
    · rename_i hroom
      obtain ⟨hr1, hr2⟩ := cz_roomC (d := d) S hI hroom.1 hroom.2
      have hb : n.toNatClampNeg * componentBytes .long ≤ 536870912 := by
        have h1 := hroom.2
        rw [hI.1.1] at h1
        have h2 := S.2.2.2.2.2.1.2.2.2.2.2.2.2.1
        have h3 : componentBytes .long ≤ 8 := by decide
        have h4 := Nat.mul_le_mul_left n.toNatClampNeg h3
        omega
      refine W.newa (atype := .long) S.1 S.2.1 (S.2.2.2.2.1 _ q2066) rfl dg rfl hn hb hr1 hr2 fun cA kA comp f1 f2 f3 => ?_
      have hnm : K.2.2.2.1.vm.findClass ("[" ++ (FieldType.long).toString) = some (D.2.1 3) := (S.2.2.2.2.2.1.1.2 3 _ rfl).2
      cases hnm.symm.trans f1
      rw [hI.1.2.1]
      have e1 : (H.push ({ cls := D.2.1 3, slots := Array.replicate n.toNatClampNeg (defaultValue (newarray.typeOf .long)), vm := .none } : Cell))[h.2.1]? = some { cls := D.2.1 3, slots := Array.replicate n.toNatClampNeg (defaultValue (newarray.typeOf .long)), vm := .none } := by rw [← hI.1.2.1]; simp
      refine cz_wnew (st := cz_r (some h.2.1) :: st) (x := .inr (3, n.toNatClampNeg, .inr (.inl (fun _ => 0)))) hI hl e1 ⟨_, e1, rfl, rfl, (fun q => by cases q), fun _ => rfl, ?_, ?_⟩ (by simp) (by simp; exact hI.1.2.1) (fun q hq => by rw [Array.getElem?_push, if_neg (by rw [hI.1.2.1]; exact Nat.ne_of_lt hq)]) hroom.1 hroom.2 hz (k _ _)
      · exact cz_ar.of (cz_rep n.toNatClampNeg (.long 0))
      · intro q; cases q
    · cases hz
theorem ct_newa4 {n : Int32} {idx : Nat} {kk : Option Nat → cz_H → cz_Z} (S : cz_S K D h0 cc nL own ret nm tb) (hlk : Cond.classLink own idx "java/lang/Object" ∈ lw_all) (dg : decode cc pc = .ok (.anewarray idx, 3)) (k : ∀ (r : Option Nat) (h' : cz_H), cz_T K D d h0 oh nL (kk r h') h' (pc + 3) L (cz_r r :: st)) : cz_T K D d h0 oh nL (cz_newa h 4 n kk) h pc L (cz_i n :: st) := by
  intro hz H locs ls hI hl
  unfold cz_newa cz_mk at hz
  split at hz
  · cases hz
  · rename_i hn
    split at hz
    · rename_i hroom
      obtain ⟨hr1, hr2⟩ := cz_roomC (d := d) S hI hroom.1 hroom.2
      have hb : n.toNatClampNeg * 4 ≤ 536870912 := by
        have h1 := hroom.2
        rw [hI.1.1] at h1
        have h2 := S.2.2.2.2.2.1.2.2.2.2.2.2.2.1
        omega
      refine W.anew S.1 S.2.1 S.2.2.2.1 (S.2.2.2.2.1 _ hlk) (va_AO.use (S.2.2.2.2.2.1.2.2.2.1 _ q1003)) rfl dg rfl hn hb hr1 hr2 fun cA kA comp f1 f2 f3 f4 => ?_
      have hnm : K.2.2.2.1.vm.findClass ("[" ++ (FieldType.object "java/lang/Object").toString) = some (D.2.1 4) := va_nmO (S.2.2.2.2.2.1.1.2 4 _ rfl).2 rfl
      cases hnm.symm.trans f1
      rw [hI.1.2.1]
      have e1 : (H.push ({ cls := D.2.1 4, slots := Array.replicate n.toNatClampNeg .null, vm := .none } : Cell))[h.2.1]? = some { cls := D.2.1 4, slots := Array.replicate n.toNatClampNeg .null, vm := .none } := by rw [← hI.1.2.1]; simp
      refine cz_wnew (st := cz_r (some h.2.1) :: st) (x := .inr (4, n.toNatClampNeg, cz_qa (fun _ => none))) hI hl e1 ⟨_, e1, rfl, rfl, (fun q => by cases q), fun _ => rfl, ?_, (fun q => by cases q)⟩ (by simp) (by simp; exact hI.1.2.1) (fun q hq => by rw [Array.getElem?_push, if_neg (by rw [hI.1.2.1]; exact Nat.ne_of_lt hq)]) hroom.1 hroom.2 hz (k _ _)
      exact cz_ar.of (cz_rep n.toNatClampNeg .null)
    · cases hz
theorem ct_newa5 {n : Int32} {idx : Nat} {kk : Option Nat → cz_H → cz_Z} (S : cz_S K D h0 cc nL own ret nm tb) (hlk : Cond.classLink own idx "HeldCoats$Reign" ∈ lw_all) (dg : decode cc pc = .ok (.anewarray idx, 3)) (k : ∀ (r : Option Nat) (h' : cz_H), cz_T K D d h0 oh nL (kk r h') h' (pc + 3) L (cz_r r :: st)) : cz_T K D d h0 oh nL (cz_newa h 5 n kk) h pc L (cz_i n :: st) := by
  intro hz H locs ls hI hl
  unfold cz_newa cz_mk at hz
  split at hz
  · cases hz
  · rename_i hn
    split at hz
    · rename_i hroom
      obtain ⟨hr1, hr2⟩ := cz_roomC (d := d) S hI hroom.1 hroom.2
      have hb : n.toNatClampNeg * 4 ≤ 536870912 := by
        have h1 := hroom.2
        rw [hI.1.1] at h1
        have h2 := S.2.2.2.2.2.1.2.2.2.2.2.2.2.1
        omega
      refine W.anew S.1 S.2.1 S.2.2.2.1 (S.2.2.2.2.1 _ hlk) (va_AO.use (S.2.2.2.2.2.1.2.2.2.1 _ q359)) rfl dg rfl hn hb hr1 hr2 fun cA kA comp f1 f2 f3 f4 => ?_
      have hnm : K.2.2.2.1.vm.findClass ("[" ++ (FieldType.object "HeldCoats$Reign").toString) = some (D.2.1 5) := va_nmO (S.2.2.2.2.2.1.1.2 5 _ rfl).2 rfl
      cases hnm.symm.trans f1
      rw [hI.1.2.1]
      have e1 : (H.push ({ cls := D.2.1 5, slots := Array.replicate n.toNatClampNeg .null, vm := .none } : Cell))[h.2.1]? = some { cls := D.2.1 5, slots := Array.replicate n.toNatClampNeg .null, vm := .none } := by rw [← hI.1.2.1]; simp
      refine cz_wnew (st := cz_r (some h.2.1) :: st) (x := .inr (5, n.toNatClampNeg, cz_qa (fun _ => none))) hI hl e1 ⟨_, e1, rfl, rfl, (fun q => by cases q), fun _ => rfl, ?_, (fun q => by cases q)⟩ (by simp) (by simp; exact hI.1.2.1) (fun q hq => by rw [Array.getElem?_push, if_neg (by rw [hI.1.2.1]; exact Nat.ne_of_lt hq)]) hroom.1 hroom.2 hz (k _ _)
      exact cz_ar.of (cz_rep n.toNatClampNeg .null)
    · cases hz
theorem ct_newa6 {n : Int32} {idx : Nat} {kk : Option Nat → cz_H → cz_Z} (S : cz_S K D h0 cc nL own ret nm tb) (hlk : Cond.classLink own idx "HeldCoats$Kept" ∈ lw_all) (dg : decode cc pc = .ok (.anewarray idx, 3)) (k : ∀ (r : Option Nat) (h' : cz_H), cz_T K D d h0 oh nL (kk r h') h' (pc + 3) L (cz_r r :: st)) : cz_T K D d h0 oh nL (cz_newa h 6 n kk) h pc L (cz_i n :: st) := by
  intro hz H locs ls hI hl
  unfold cz_newa cz_mk at hz
  split at hz
  · cases hz
  · rename_i hn
    split at hz
    · rename_i hroom
      obtain ⟨hr1, hr2⟩ := cz_roomC (d := d) S hI hroom.1 hroom.2
      have hb : n.toNatClampNeg * 4 ≤ 536870912 := by
        have h1 := hroom.2
        rw [hI.1.1] at h1
        have h2 := S.2.2.2.2.2.1.2.2.2.2.2.2.2.1
        omega
      refine W.anew S.1 S.2.1 S.2.2.2.1 (S.2.2.2.2.1 _ hlk) (va_AO.use (S.2.2.2.2.2.1.2.2.2.1 _ q361)) rfl dg rfl hn hb hr1 hr2 fun cA kA comp f1 f2 f3 f4 => ?_
      have hnm : K.2.2.2.1.vm.findClass ("[" ++ (FieldType.object "HeldCoats$Kept").toString) = some (D.2.1 6) := va_nmO (S.2.2.2.2.2.1.1.2 6 _ rfl).2 rfl
      cases hnm.symm.trans f1
      rw [hI.1.2.1]
      have e1 : (H.push ({ cls := D.2.1 6, slots := Array.replicate n.toNatClampNeg .null, vm := .none } : Cell))[h.2.1]? = some { cls := D.2.1 6, slots := Array.replicate n.toNatClampNeg .null, vm := .none } := by rw [← hI.1.2.1]; simp
      refine cz_wnew (st := cz_r (some h.2.1) :: st) (x := .inr (6, n.toNatClampNeg, cz_qa (fun _ => none))) hI hl e1 ⟨_, e1, rfl, rfl, (fun q => by cases q), fun _ => rfl, ?_, (fun q => by cases q)⟩ (by simp) (by simp; exact hI.1.2.1) (fun q hq => by rw [Array.getElem?_push, if_neg (by rw [hI.1.2.1]; exact Nat.ne_of_lt hq)]) hroom.1 hroom.2 hz (k _ _)
      exact cz_ar.of (cz_rep n.toNatClampNeg .null)
    · cases hz
theorem ct_aast {r v : Option Nat} {i : Int32} {kk : cz_H → cz_Z} (S : cz_S K D h0 cc nL own ret nm tb) (dg : decode cc pc = .ok (.aastore, 1)) (k : ∀ h' : cz_H, cz_T K D d h0 oh nL (kk h') h' (pc + 1) L st) : cz_T K D d h0 oh nL (cz_aast h r i v kk) h pc L (cz_r v :: cz_i i :: cz_r r :: st) := by
  intro hz H locs ls hI hl
  obtain ⟨a, kd, ⟨n, f | f | f | f | f⟩, rfl, hc, hz⟩ := cz_arrI hz
  · cases hz
  · cases hz
  · cases hz
  · cases hz
  · cases v with
    | none => cases hz
    | some b =>
      dsimp only at hz
      split at hz
      · rename_i o hcb
        split at hz
        · rename_i hkd
          split at hz
          · cases hz
          · rename_i hin
            obtain ⟨htk, hb⟩ := hkd
            rw [hI.1.1] at hb
            obtain ⟨cell, g2, g3, g4, g5, g6, g7, g8⟩ := hI.1.2.2.2.2.2 a _ hc
            have g7 : cell.slots = (arrV 0 n (fun j => va_rf (f j))).slots := g7.1 hb
            obtain ⟨r2, cv, v1, v2, v3, v4, v5, v6, v7⟩ := hI.1.2.2.2.2.2 b _ hcb
            have hat := (S.2.2.2.2.2.1.1.1 o.1 _ v1).2
            obtain ⟨kv, hkv, hkvk⟩ := hat.2
            have key : ∃ (C : String), (cz_tys D.2.1)[kd]? = some (D.2.1 kd, .object C) ∧ ∀ comp, K.2.2.2.1.vm.findClass C = some comp → K.2.2.2.1.vm.assignable cv.cls comp = true := by
              unfold cz_takes at htk
              simp only [Bool.or_eq_true, Bool.and_eq_true, beq_iff_eq, decide_eq_true_eq] at htk
              rcases htk with (⟨rfl, -⟩ | ⟨rfl, e⟩) | ⟨rfl, e⟩
              · refine ⟨_, rfl, fun comp hcomp => ?_⟩
                obtain ⟨c0, t0, f1, f2, f3⟩ := Cond.castable_spec (va_Nw.use (A := K.2.2.2.2.2.1) rfl (S.2.2.2.2.2.1.2.2.1 _ (cz_ocast o.1 _ v1) rfl))
                cases hat.1.symm.trans f1
                cases hcomp.symm.trans f2
                rw [v3]; exact f3
              · refine ⟨_, rfl, fun comp hcomp => ?_⟩
                rw [e] at v1 hat v3
                cases Option.some.inj (v1.symm.trans cz_cl3)
                cases hcomp.symm.trans hat.1
                rw [v3]; exact va_assign hat
              · refine ⟨_, rfl, fun comp hcomp => ?_⟩
                rw [e] at v1 hat v3
                cases Option.some.inj (v1.symm.trans cz_cl4)
                cases hcomp.symm.trans hat.1
                rw [v3]; exact va_assign hat
            obtain ⟨C, ht, hasg⟩ := key
            obtain ⟨kA, comp, w1, w2, w3, w4⟩ := (S.2.2.2.2.2.1.1.2 kd _ ht).2
            obtain ⟨kcomp, hkcomp, -⟩ := Vm.findClass_spec w3
            have hkd1 : ¬ kd = 1 := fun q => by rw [q] at ht; cases ht
            exact W.aast S.1 S.2.1 g2 (fun q hq => by rw [hq] at g4; cases g4) g5 (by rw [g3]; exact w1) w2 rfl hkcomp ⟨fun q => hin (Or.inl q), by rw [g7, arrV_size]; exact Nat.lt_of_not_le fun q => hin (Or.inr q)⟩ v2 (fun q hq => by rw [hq] at v4; cases v4) (by rw [v3]; exact hkv) (hasg comp w3) rfl rfl dg fun H' e1 e2 e3 => cz_wast (v := va_rf (some b)) hI hl hb g2 g3 g4 g5 g6 g7 e1 e2 e3 (by rw [cz_updV_ref]; rfl) (fun q => absurd q hkd1) hz (k _)
        · cases hz
      · cases hz
theorem cz_nn (z : Int32) (hz : ¬ z < 0) : z.toInt = (z.toNatClampNeg : Int) := by
  have hz0 : (0 : Int) ≤ z.toInt := by
    have := Int32.not_lt.mp hz
    simpa using Int32.le_iff_toInt_le.mp this
  show z.toInt = ((z.toInt.toNat : Nat) : Int)
  omega
theorem cz_pairs_slots (at_ : Nat) : ∀ (vs : List (Value × Nat)) (c c2 : Cell), c.slots = c2.slots → (c.storePairs at_ vs).slots = (c2.storePairs at_ vs).slots
  | [], _, _, h => h
  | q :: r, c, c2, h => by
    show ((c.setSlot (at_ + q.2) q.1).storePairs at_ r).slots = ((c2.setSlot (at_ + q.2) q.1).storePairs at_ r).slots
    exact cz_pairs_slots at_ r _ _ (by simp only [Cell.setSlot, h])
theorem cz_copied {α : Type} (mk : α → Value) {cs cd : Cell} {n0 n1 : Nat} {sp dp n : Int32} (f g : Nat → α) (h1 : ∀ j, j < n0 → cs.slots[j]? = (arrV 0 n0 (fun j => mk (f j))).slots[j]?) (h2 : cd.slots = (arrV 0 n1 (fun j => mk (g j))).slots) (hs : sp.toNatClampNeg + n.toNatClampNeg ≤ n0) :
    (copied cs cd sp dp n).slots = (arrV 0 n1 (fun j => mk (va_cpy f g sp.toNatClampNeg dp.toNatClampNeg n.toNatClampNeg j))).slots := by
  have e := va_copied mk 0 0 (n1 := n1) (dp := dp.toNatClampNeg) f g hs
  rw [← e]
  show (cd.storePairs dp.toNatClampNeg (cs.stretch sp.toNatClampNeg n.toNatClampNeg).zipIdx).slots = ((arrV 0 n1 (fun j => mk (g j))).storePairs dp.toNatClampNeg ((arrV 0 n0 (fun j => mk (f j))).stretch sp.toNatClampNeg n.toNatClampNeg).zipIdx).slots
  have es : cs.stretch sp.toNatClampNeg n.toNatClampNeg = (arrV 0 n0 (fun j => mk (f j))).stretch sp.toNatClampNeg n.toNatClampNeg := by
    unfold Cell.stretch
    apply List.map_congr_left
    intro i hi
    have hi := List.mem_range.mp hi
    rw [Array.getD_eq_getD_getElem?, Array.getD_eq_getD_getElem?, h1 _ (by omega)]
  rw [es]
  exact cz_pairs_slots _ _ _ _ h2
theorem cz_cpy_byt {n0 n1 sp dp n : Nat} {f g : Nat → Int32} (hf : cz_byt (n0, .inl f)) (hg : cz_byt (n1, .inl g)) (hs : sp + n ≤ n0) : cz_byt (n1, .inl (va_cpy f g sp dp n)) := by
  intro n2 f2 e j hj
  cases e
  unfold va_cpy
  split
  · exact hf n0 f rfl _ (by omega)
  · exact hg n1 g rfl j hj
/-- behind a copy -/
theorem cz_wcpy {H : Heap} {locs LL : List Loc} {ls : Array Slot} {TT : State} {a kd : Nat} {y : vp_A} {cell cell2 : Cell} {cells slots : Nat} (hI : cz_I K D h0 h H locs) (hl : lv_has ls nL (cz_lm L)) (hb : D.2.2.1 ≤ a) (g2 : H[a]? = some cell) (g3 : cell2.cls = D.2.1 kd) (g4 : cell2.vm.isStatics = false) (g5 : cell2.vm ≠ .unknown) (g6 : D.2.2.1 ≤ a → cell2.vm = .none) (g7 : cell2.slots = (vp_cell 0 y).slots) (gz : cell2.slots.size = cell.slots.size) (hLL : ∀ z ∈ LL, z.base = a) (hby : kd = 1 → cz_byt y) (hz : z = some oh)
    (hT : TT.heap = H.setIfInBounds a cell2) (X : Stand K.1 K.2.1 K.2.2.1 (cz_rm d h0) K.2.2.2.1 K.2.2.2.2.1 K.2.2.2.2.2.1 K.2.2.2.2.2.2.1 K.2.2.2.2.2.2.2.1 K.2.2.2.2.2.2.2.2 TT (locs ++ LL) cells slots) (k : cz_T K D d h0 oh nL z (cz_set h a (.inr (kd, y))) (pc + 3) L st) :
    ∃ t, Steps K.1.tables K.2.2.1 K.2.2.2.2.2.2.1 (TT.setTop (F0 K.2.2.2.2.1 (pc + 3) ls (st.map cz_val))) t ∧ cz_MQ K D h0 oh t := by
  obtain ⟨hR, hX, hu, hlocs⟩ := hI
  have ha : a < H.size := (Array.getElem?_eq_some_iff.mp g2).1
  have e1 : (H.setIfInBounds a cell2)[a]? = some cell2 := by simp [Array.getElem?_setIfInBounds, ha]
  have e2 : (H.setIfInBounds a cell2).size = H.size := by simp
  have e3 : ∀ q, q ≠ a → (H.setIfInBounds a cell2)[q]? = H[q]? := fun q hq => by simp [Array.getElem?_setIfInBounds, Ne.symm hq]
  have hX1 : cz_X D.2.2.1 H (H.setIfInBounds a cell2) := cz_X.put g2 e1 gz e2 e3 hb
  refine cz_tight (k hz _ (locs ++ LL) ls ⟨hR.put e2 e3 ⟨_, e1, g3, g4, g5, g6, cz_ar.of g7, hby⟩, hX.tr hX1, ?_, ?_⟩ hl) TT hT X
  · rw [cz_sl_put hX1 e2 _ hX.1]; exact hu
  · intro q hq
    rcases List.mem_append.mp hq with e | e
    · exact hlocs q e
    · rw [hLL q e]; exact hb
theorem cz_copied_facts (cs cd : Cell) (sp dp n : Int32) : (copied cs cd sp dp n).cls = cd.cls ∧ (copied cs cd sp dp n).vm = cd.vm ∧ (copied cs cd sp dp n).slots.size = cd.slots.size := by
  have h := Cell.storePairs_facts cd dp.toNatClampNeg (cs.stretch sp.toNatClampNeg n.toNatClampNeg).zipIdx
  exact ⟨h.1, h.2.1, h.2.2.1⟩
theorem ct_acp {rs rd : Option Nat} {sp dp n : Int32} {idx : Nat} {kk : cz_H → cz_Z} (S : cz_S K D h0 cc nL own ret nm tb) (hlk : Cond.methodLink own idx arraycopyName ∈ lw_all) (hnat : Cond.native arraycopyName ∈ lw_all) (hstat : Cond.static arraycopyName ∈ lw_all) (hini : Cond.initialized "java/lang/System" ∈ lw_all) (hd : 1 ≤ d) (hst : (st.map cz_cat).sum ≤ 16) (dg : decode cc pc = .ok (.invokestatic idx, 3)) (k : ∀ h' : cz_H, cz_T K D d h0 oh nL (kk h') h' (pc + 3) L st) : cz_T K D d h0 oh nL (cz_acp h rs sp rd dp n kk) h pc L (cz_i n :: cz_i dp :: cz_r rd :: cz_i sp :: cz_r rs :: st) := by
  intro hz H locs ls hI hl TT hT X
  obtain ⟨a0, k0, ⟨n0, f | f⟩, rfl, hc0, hz⟩ := cz_arrI hz
  · obtain ⟨a1, k1, ⟨n1, g | g⟩, rfl, hc1, hz⟩ := cz_arrI hz
    rotate_left
    · cases hz
    dsimp only at hz
    split at hz
    · rename_i hkd
      split at hz
      · rename_i hin
        obtain ⟨⟨rfl, hkk⟩, hb⟩ := hkd
        obtain ⟨⟨h1, h2, h3⟩, h4, h5⟩ := hin
        rw [hI.1.1] at hb
        obtain ⟨cell0, p2, p3, p4, p5, p6, p7, p8⟩ := hI.1.2.2.2.2.2 a0 _ hc0
        obtain ⟨cell1, g2, g3, g4, g5, g6, g7, g8⟩ := hI.1.2.2.2.2.2 a1 _ hc1
        obtain ⟨-, p71, -, p72⟩ := p7
        have p72 : ∀ j, j < n0 → cell0.slots[j]? = (arrV 0 n0 (fun j => Value.int (f j))).slots[j]? := p72
        have p71 : n0 ≤ cell0.slots.size := p71
        have g7 : cell1.slots = (arrV 0 n1 (fun j => .int (g j))).slots := g7.1 hb
        have hA : ∃ ty, ArrOfT K.2.2.2.1 (D.2.1 k0) ty ∧ (ty = .int ∨ (ty = .byte ∧ k0 = 1)) := by
          rcases hkk with rfl | rfl
          · exact ⟨_, cz_kdT S rfl, Or.inl rfl⟩
          · exact ⟨_, cz_kdT S rfl, Or.inr ⟨rfl, rfl⟩⟩
        obtain ⟨ty, hA, hty⟩ := hA
        obtain ⟨hs0, q0, hq0, cm0, hqq0⟩ := cz_isArr hA p3 p4
        obtain ⟨hs1, q1, hq1, cm1, hqq1⟩ := cz_isArr hA g3 g4
        obtain ⟨vm', X', step⟩ := X.arraycopy S.1 S.2.2.2.1 (S.2.2.2.2.1 _ hlk) (S.2.2.2.2.1 _ hnat) (S.2.2.2.2.1 _ hstat) (S.2.2.2.2.1 _ hini) (src := a0) (dst := a1) (cs := cell0) (cd := cell1) (srcPos := sp) (destPos := dp) (n := n) (by rw [hT]; exact p2) (by rw [hT]; exact g2)
          hs0 hs1 p5 g5 hq0 hq1 hqq0 hqq1 (by rcases hty with rfl | ⟨rfl, -⟩ <;> rfl) h1 h2 h3
          (by rw [cz_nn sp h1, cz_nn n h3]; omega) (by rw [cz_nn dp h2, cz_nn n h3, g7, arrV_size]; omega)
          (fun vm₁ _ i hi => by
            have e : cell0.slots.getD (sp.toNatClampNeg + i) .null = .int (f (sp.toNatClampNeg + i)) := by
              rw [Array.getD_eq_getD_getElem?, p72 _ (by omega), arrV_read _ _ (by omega)]
              rfl
            rw [e]
            refine ⟨?_, trivial⟩
            rcases hty with rfl | ⟨rfl, e1⟩
            · rfl
            · have := pk_fb (f (sp.toNatClampNeg + i))
              rw [p8 e1 n0 f rfl _ (by omega)] at this
              exact this)
          (g := F0 K.2.2.2.2.1 pc ls (.int n :: .int dp :: .ref a1 :: .int sp :: .ref a0 :: st.map cz_val)) rfl (by rw [S.2.2.1]; exact hl.1) (rest := st.map cz_val) rfl (by rw [S.2.1]; exact dg) hd (by
            show 2 * 0 + ((st.map cz_val).map fun v => v.category).sum + (nativeFrameWords "java/lang/System" "arraycopy" 5 + 11) ≤ 64 * d
            have e : ((st.map cz_val).map fun v => v.category).sum = (st.map cz_cat).sum := by
              rw [List.map_map]
              congr 1
              apply List.map_congr_left
              intro v _
              exact cz_cat_val v
            have hw : nativeFrameWords "java/lang/System" "arraycopy" 5 ≤ 20 := by decide
            rw [e]
            omega)
        have hcf := cz_copied_facts cell0 cell1 sp dp n
        obtain ⟨t, a, b⟩ := cz_wcpy (y := (n1, .inl (va_cpy f g sp.toNatClampNeg dp.toNatClampNeg n.toNatClampNeg))) (kd := k0) (TT := (TT.setVm vm').setCell a1 (copied cell0 cell1 sp dp n)) hI hl hb g2 (hcf.1.trans g3) (by rw [hcf.2.1]; exact g4) (by rw [hcf.2.1]; exact g5) (fun q => by rw [hcf.2.1]; exact g6 q) (cz_copied (fun x => .int x) f g p72 g7 h4) hcf.2.2 (fun z hz => by
          obtain ⟨q, -, e⟩ := List.mem_map.mp hz
          rw [← e]) (fun e => cz_cpy_byt (p8 e) (g8 e) h4) hz (by rw [← hT]; rfl) X' (k _)
        exact ⟨t, step t a, b⟩
      · cases hz
    · cases hz
  · obtain ⟨a1, k1, ⟨n1, g | g⟩, rfl, hc1, hz⟩ := cz_arrI hz <;> cases hz
end CZJ
