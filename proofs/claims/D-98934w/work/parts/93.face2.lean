/-! THE PLAIN LAW, 33: the face's Reigns -/
set_option maxRecDepth 100000
/-- the heap without the face and the reference -/
def cx_no (h : cz_H) (x : Nat) : Nat → Option cz_C := fun q => if (x ≤ q ∧ q < x + 126) ∧ ¬ (x + 2 ≤ q ∧ q < x + 8) then none else h.2.2.2 q
theorem cx_no_in {h : cz_H} {x : Nat} {X : cx_X} : ∀ a v, cx_no h x a = some v → (cx_set h x X).2.2.2 a = some v := by
  intro a v e
  unfold cx_no at e
  split at e
  · cases e
  · rename_i hq
    rw [cx_out h x X (by omega)]
    exact e
theorem cx_no_rx {h : cz_H} {x : Nat} {X : cx_X} {i : Nat} (hi : i < 12) : ∀ a v, cx_no h x a = some v → rx_no (cx_set h x X) (x + cx_o i) a = some v := by
  obtain ⟨-, b0, c0, -⟩ := cx_slot hi (k := 0) (by omega)
  obtain ⟨-, b7, c7, -⟩ := cx_slot hi (k := 7) (by omega)
  intro a v e
  have e2 := cx_no_in (X := X) a v e
  unfold cx_no at e
  split at e
  · cases e
  · rename_i hq
    exact (if_neg (by omega)).trans e2
theorem cx_apart {x i j : Nat} (hi : i < 12) (hj : j < 12) (hne : i ≠ j) : rx_apart (x + cx_o i) (x + cx_o j) := by
  unfold rx_apart
  by_cases a : cx_o j + 8 ≤ cx_o i
  · exact Or.inl (by omega)
  · by_cases b : cx_o i + 8 ≤ cx_o j
    · exact Or.inr (by omega)
    · exfalso
      rcases Nat.le_total (cx_o i) (cx_o j) with q | q
      · have e1 := (cx_slot hi (k := cx_o j - cx_o i) (by omega)).1
        have e2 := (cx_slot hj (k := 0) (by omega)).1
        rw [show cx_o i + (cx_o j - cx_o i) = cx_o j + 0 by omega, e2] at e1
        exact hne e1.symm
      · have e1 := (cx_slot hj (k := cx_o i - cx_o j) (by omega)).1
        have e2 := (cx_slot hi (k := 0) (by omega)).1
        rw [show cx_o j + (cx_o i - cx_o j) = cx_o i + 0 by omega, e2] at e1
        exact hne e1
theorem cx_Ge {X : cx_X} {i : Nat} {R : rx_R} : (cx_G X i R).2.2.2.2 i = R := if_pos rfl
theorem cx_Gn {X : cx_X} {i j : Nat} {R : rx_R} (h : j ≠ i) : (cx_G X i R).2.2.2.2 j = X.2.2.2.2 j := if_neg h
theorem cx_Ie {X : cx_X} {j : Nat} {v : Int32} : (cx_I X j v).1 j = v := if_pos rfl
theorem cx_In {X : cx_X} {i j : Nat} {v : Int32} (h : i ≠ j) : (cx_I X j v).1 i = X.1 i := if_neg h
theorem cx_I2 {X : cx_X} {j : Nat} {v : Int32} : (cx_I X j v).2 = X.2 := by
  unfold cx_I
  rfl
theorem cx_Fe {X : cx_X} {j : Nat} {v : Option Nat} : (cx_F X j v).2.1 j = v := if_pos rfl
theorem cx_Fn {X : cx_X} {i j : Nat} {v : Option Nat} (h : i ≠ j) : (cx_F X j v).2.1 i = X.2.1 i := if_neg h
theorem cx_F1 {X : cx_X} {j : Nat} {v : Option Nat} : (cx_F X j v).1 = X.1 := by
  unfold cx_F
  rfl
theorem cx_F3 {X : cx_X} {j : Nat} {v : Option Nat} : (cx_F X j v).2.2 = X.2.2 := by
  unfold cx_F
  rfl
theorem cx_G1 {X : cx_X} {i : Nat} {R : rx_R} : (cx_G X i R).1 = X.1 := by
  unfold cx_G
  rfl
theorem cx_G2 {X : cx_X} {i : Nat} {R : rx_R} : (cx_G X i R).2.1 = X.2.1 := by
  unfold cx_G
  rfl
theorem cx_G3 {X : cx_X} {i : Nat} {R : rx_R} : (cx_G X i R).2.2.1 = X.2.2.1 := by
  unfold cx_G
  rfl
theorem cx_G4 {X : cx_X} {i : Nat} {R : rx_R} : (cx_G X i R).2.2.2.1 = X.2.2.2.1 := by
  unfold cx_G
  rfl
theorem cx_A1 {X : cx_X} {i j : Nat} {v : Int32} : (cx_A X j i v).1 = X.1 := by
  unfold cx_A
  rfl
theorem cx_A2 {X : cx_X} {i j : Nat} {v : Int32} : (cx_A X j i v).2.1 = X.2.1 := by
  unfold cx_A
  rfl
theorem cx_Ae {X : cx_X} {i j : Nat} {v : Int32} : (cx_A X j i v).2.2.1 j = upd (X.2.2.1 j) i v := if_pos rfl
theorem cx_An {X : cx_X} {i j q : Nat} {v : Int32} (h : q ≠ j) : (cx_A X j i v).2.2.1 q = X.2.2.1 q := if_neg h
theorem cx_A4 {X : cx_X} {i j : Nat} {v : Int32} : (cx_A X j i v).2.2.2 = X.2.2.2 := by
  unfold cx_A
  rfl
theorem cx_E1 {X : cx_X} {g : Nat → Option Nat} : (cx_E X g).1 = X.1 := by
  unfold cx_E
  rfl
theorem cx_E2 {X : cx_X} {g : Nat → Option Nat} : (cx_E X g).2.1 = X.2.1 := by
  unfold cx_E
  rfl
theorem cx_E3 {X : cx_X} {g : Nat → Option Nat} : (cx_E X g).2.2.1 = X.2.2.1 := by
  unfold cx_E
  rfl
theorem cx_E4 {X : cx_X} {g : Nat → Option Nat} : (cx_E X g).2.2.2.1 = g := by
  unfold cx_E
  rfl
theorem cx_E5 {X : cx_X} {g : Nat → Option Nat} : (cx_E X g).2.2.2.2 = X.2.2.2.2 := by
  unfold cx_E
  rfl
theorem cx_GG {X : cx_X} {i : Nat} {R S : rx_R} : cx_G (cx_G X i R) i S = cx_G X i S := by
  unfold cx_G
  refine Prod.ext rfl (Prod.ext rfl (Prod.ext rfl (Prod.ext rfl ?_)))
  funext q
  dsimp only
  split <;> rfl
theorem cx_Gid {X : cx_X} {i : Nat} : cx_G X i (X.2.2.2.2 i) = X := by
  unfold cx_G
  refine Prod.ext rfl (Prod.ext rfl (Prod.ext rfl (Prod.ext rfl ?_)))
  funext q
  dsimp only
  split
  · rename_i e; rw [e]
  · rfl
theorem rx_as_ok {R S : rx_R} {s : Nat → Int32} (oq : sp_oq s) (h : rx_ok S s) : rx_ok (rx_as R S) s ∧ (rx_as R S).1 = S.1 := by
  have h8 := oq.1.2.2.1.2
  have h6 := oq.1.2.1.2
  obtain ⟨ok, Q, hQ⟩ := oq
  have hl := hQ.len ok
  have hn : sp_n s 117 = Q.length := by unfold sp_n; rw [hQ.2.2.1, Int32.toNatClampNeg_ofNat_of_lt (show Q.length < 2 ^ 31 by omega)]
  obtain ⟨a1, a2, a3, a4, a5, a6, a7, a8⟩ := h
  have cp : ∀ (f g : Nat → Int32) (n k : Nat), k < n → va_cpy f g 0 0 n k = f k := fun f g n k hk => by
    unfold va_cpy
    rw [if_pos (by omega)]
    congr 1
    omega
  refine ⟨⟨a1, a2, a3, a4, a5, fun k hk => ?_, fun k hk => ?_, fun k hk => ?_⟩, rfl⟩
  · obtain ⟨b1, b2, b3, b4⟩ := a6 k hk
    have e : ∀ j, j = 6 ∨ j = 7 ∨ j = 8 ∨ j = 9 → (rx_as R S).2.2 j k = S.2.2 j k := by
      intro j hj
      rcases hj with e | e | e | e <;> subst e <;> exact cp _ _ 8 k (by omega)
    rw [e 6 (by omega), e 7 (by omega), e 8 (by omega), e 9 (by omega)]
    exact ⟨b1, b2, b3, b4⟩
  · rw [show (rx_as R S).2.2 10 k = S.2.2 10 k from cp _ _ 8 k (by omega)]
    exact a7 k hk
  · rw [show (rx_as R S).2.2 11 k = S.2.2 11 k from cp _ _ 6 k (by omega), show (rx_as R S).2.2 12 k = S.2.2 12 k from cp _ _ 6 k (by omega)]
    exact a8 k hk
/-- the face's Reign i is of the row s, under the Capital c -/
def cx_st (h : cz_H) (x : Nat) (X : cx_X) (i c : Nat) (s : Nat → Int32) (nm : Nat → Int64) : Prop := sp_full s ∧ (X.2.2.2.2 i).1 = some c ∧ pc_Cap (cx_no h x) c s nm ∧ rx_ok (X.2.2.2.2 i) s
section CXB
variable {h : cz_H} {x i c : Nat} {X : cx_X} {s : Nat → Int32} {nm : Nat → Int64}
theorem cx_st.rx (H : cx_st h x X i c s nm) (hi : i < 12) : rx_st (cx_set h x X) (x + cx_o i) (X.2.2.2.2 i) c s nm := ⟨H.1, H.2.1, H.2.2.1.mono (cx_no_rx hi), H.2.2.2⟩
theorem cx_st.is (H : cx_st h x X i c s nm) (hi : i < 12) : rx_is (cx_set h x X) (x + cx_o i) (X.2.2.2.2 i) c s nm := (H.rx hi).is
theorem cx_st.of {R : rx_R} {t : Nat → Int32} (H : cx_st h x X i c s nm) (hR : rx_st (cx_set h x X) (x + cx_o i) R c t nm) (hs : sp_same s t) : cx_st h x (cx_G X i R) i c t nm := ⟨hR.1, by rw [cx_Ge]; exact hR.2.1, H.2.2.1.same H.1.1.1.1 hs, by rw [cx_Ge]; exact hR.2.2.2⟩
theorem cx_as {j : Nat} (hb : h.1.1 ≤ x) (hi : i < 12) (hj : j < 12) (hne : i ≠ j) : fn_X3_as (some (x + cx_o i)) (some (x + cx_o j)) (cx_set h x X) = some (.inl (some (cz_r (some (x + cx_o i)))), cx_set h x (cx_G X i (rx_as (X.2.2.2.2 i) (X.2.2.2.2 j)))) := by
  have e := rm_as (h := cx_set h x X) (r := x + cx_o i) (q := x + cx_o j) (R := X.2.2.2.2 i) (Nat.le_add_right_of_le hb) (cx_rin h x X hj) (cx_apart hi hj hne)
  rw [cx_rid h x X hi, cx_rx h x X hi] at e
  exact e
theorem cx_st.as {j : Nat} (H : cx_st h x X j c s nm) : cx_st h x (cx_G X i (rx_as (X.2.2.2.2 i) (X.2.2.2.2 j))) i c s nm := by
  obtain ⟨a, b⟩ := rx_as_ok (R := X.2.2.2.2 i) H.1.1.1 H.2.2.2
  exact ⟨H.1, by rw [cx_Ge, b]; exact H.2.1, H.2.2.1, by rw [cx_Ge]; exact a⟩
theorem cx_st.other {j : Nat} {R : rx_R} (H : cx_st h x X j c s nm) (hne : j ≠ i) : cx_st h x (cx_G X i R) j c s nm := ⟨H.1, by rw [cx_Gn hne]; exact H.2.1, H.2.2.1, by rw [cx_Gn hne]; exact H.2.2.2⟩
theorem pc_Act.mono {F G : Nat → Option cz_C} (hFG : ∀ a x, F a = some x → G a = some x) {w k n e : Nat} (h : pc_Act F w k n e) : pc_Act G w k n e := by
  obtain ⟨V, h⟩ := h
  refine ⟨V, ?_⟩
  rcases h with ⟨a, b, c⟩ | ⟨a, b, c⟩ | ⟨a, b, c⟩ | ⟨a, b, c⟩ | ⟨a, b, c⟩
  · exact Or.inl ⟨a, hFG _ _ b, c⟩
  · exact Or.inr (Or.inl ⟨a, hFG _ _ b, c⟩)
  · exact Or.inr (Or.inr (Or.inl ⟨a, hFG _ _ b, c⟩))
  · exact Or.inr (Or.inr (Or.inr (Or.inl ⟨a, hFG _ _ b, c⟩)))
  · exact Or.inr (Or.inr (Or.inr (Or.inr ⟨a, hFG _ _ b, c⟩)))
theorem n0_rc {z : cz_Z} : cz_rc (cx_set h x X) (some (x + 8)) [3] z = z := cx_rrc (i := 0) (by omega)
theorem n0_c {kk : Option Nat → cz_Z} : cz_getR (cx_set h x X) (some (x + 8)) [(3, 0)] kk = kk (X.2.2.2.2 0).1 := pc_getR (V := rx_fld (x + 8) (X.2.2.2.2 0)) (cx_rin h x X (i := 0) (by omega) 0 (by omega)) rfl rfl
theorem n0_day {kk : Int32 → cz_Z} : cz_getI (cx_set h x X) (some (x + 8)) [(3, 1)] kk = kk ((X.2.2.2.2 0).2.1 1) := pc_getI (V := rx_fld (x + 8) (X.2.2.2.2 0)) (cx_rin h x X (i := 0) (by omega) 0 (by omega)) rfl rfl
theorem n0_bares {kk : Int32 → cz_Z} : cz_getI (cx_set h x X) (some (x + 8)) [(3, 2)] kk = kk ((X.2.2.2.2 0).2.1 2) := pc_getI (V := rx_fld (x + 8) (X.2.2.2.2 0)) (cx_rin h x X (i := 0) (by omega) 0 (by omega)) rfl rfl
theorem n0_firstBare {kk : Int32 → cz_Z} : cz_getI (cx_set h x X) (some (x + 8)) [(3, 3)] kk = kk ((X.2.2.2.2 0).2.1 3) := pc_getI (V := rx_fld (x + 8) (X.2.2.2.2 0)) (cx_rin h x X (i := 0) (by omega) 0 (by omega)) rfl rfl
theorem n0_eaten {kk : Int32 → cz_Z} : cz_getI (cx_set h x X) (some (x + 8)) [(3, 4)] kk = kk ((X.2.2.2.2 0).2.1 4) := pc_getI (V := rx_fld (x + 8) (X.2.2.2.2 0)) (cx_rin h x X (i := 0) (by omega) 0 (by omega)) rfl rfl
theorem n0_queued {kk : Int32 → cz_Z} : cz_getI (cx_set h x X) (some (x + 8)) [(3, 5)] kk = kk ((X.2.2.2.2 0).2.1 5) := pc_getI (V := rx_fld (x + 8) (X.2.2.2.2 0)) (cx_rin h x X (i := 0) (by omega) 0 (by omega)) rfl rfl
theorem n0_at {kk : Option Nat → cz_Z} : cz_getR (cx_set h x X) (some (x + 8)) [(3, 6)] kk = kk (some (x + 8 + 1)) := pc_getR (V := rx_fld (x + 8) (X.2.2.2.2 0)) (cx_rin h x X (i := 0) (by omega) 0 (by omega)) rfl rfl
theorem n0l_at {n : Nat} {kk : Int32 → cz_Z} (hn : n < 8) : cz_iald (cx_set h x X) (some (x + 8 + 1)) (Int32.ofNat n) kk = kk ((X.2.2.2.2 0).2.2 6 n) := pc_iald (cx_rin h x X (i := 0) (by omega) 1 (by omega)) hn (by decide)
theorem n0_cloth {kk : Option Nat → cz_Z} : cz_getR (cx_set h x X) (some (x + 8)) [(3, 7)] kk = kk (some (x + 8 + 2)) := pc_getR (V := rx_fld (x + 8) (X.2.2.2.2 0)) (cx_rin h x X (i := 0) (by omega) 0 (by omega)) rfl rfl
theorem n0l_cloth {n : Nat} {kk : Int32 → cz_Z} (hn : n < 8) : cz_iald (cx_set h x X) (some (x + 8 + 2)) (Int32.ofNat n) kk = kk ((X.2.2.2.2 0).2.2 7 n) := pc_iald (cx_rin h x X (i := 0) (by omega) 2 (by omega)) hn (by decide)
theorem n0_user {kk : Option Nat → cz_Z} : cz_getR (cx_set h x X) (some (x + 8)) [(3, 8)] kk = kk (some (x + 8 + 3)) := pc_getR (V := rx_fld (x + 8) (X.2.2.2.2 0)) (cx_rin h x X (i := 0) (by omega) 0 (by omega)) rfl rfl
theorem n0l_user {n : Nat} {kk : Int32 → cz_Z} (hn : n < 8) : cz_iald (cx_set h x X) (some (x + 8 + 3)) (Int32.ofNat n) kk = kk ((X.2.2.2.2 0).2.2 8 n) := pc_iald (cx_rin h x X (i := 0) (by omega) 3 (by omega)) hn (by decide)
theorem n0_since {kk : Option Nat → cz_Z} : cz_getR (cx_set h x X) (some (x + 8)) [(3, 9)] kk = kk (some (x + 8 + 4)) := pc_getR (V := rx_fld (x + 8) (X.2.2.2.2 0)) (cx_rin h x X (i := 0) (by omega) 0 (by omega)) rfl rfl
theorem n0l_since {n : Nat} {kk : Int32 → cz_Z} (hn : n < 8) : cz_iald (cx_set h x X) (some (x + 8 + 4)) (Int32.ofNat n) kk = kk ((X.2.2.2.2 0).2.2 9 n) := pc_iald (cx_rin h x X (i := 0) (by omega) 4 (by omega)) hn (by decide)
theorem n0_queue {kk : Option Nat → cz_Z} : cz_getR (cx_set h x X) (some (x + 8)) [(3, 10)] kk = kk (some (x + 8 + 5)) := pc_getR (V := rx_fld (x + 8) (X.2.2.2.2 0)) (cx_rin h x X (i := 0) (by omega) 0 (by omega)) rfl rfl
theorem n0l_queue {n : Nat} {kk : Int32 → cz_Z} (hn : n < 8) : cz_iald (cx_set h x X) (some (x + 8 + 5)) (Int32.ofNat n) kk = kk ((X.2.2.2.2 0).2.2 10 n) := pc_iald (cx_rin h x X (i := 0) (by omega) 5 (by omega)) hn (by decide)
theorem n0_harm {kk : Option Nat → cz_Z} : cz_getR (cx_set h x X) (some (x + 8)) [(3, 11)] kk = kk (some (x + 8 + 6)) := pc_getR (V := rx_fld (x + 8) (X.2.2.2.2 0)) (cx_rin h x X (i := 0) (by omega) 0 (by omega)) rfl rfl
theorem n0l_harm {n : Nat} {kk : Int32 → cz_Z} (hn : n < 6) : cz_iald (cx_set h x X) (some (x + 8 + 6)) (Int32.ofNat n) kk = kk ((X.2.2.2.2 0).2.2 11 n) := pc_iald (cx_rin h x X (i := 0) (by omega) 6 (by omega)) hn (by decide)
theorem n0_ruled {kk : Option Nat → cz_Z} : cz_getR (cx_set h x X) (some (x + 8)) [(3, 12)] kk = kk (some (x + 8 + 7)) := pc_getR (V := rx_fld (x + 8) (X.2.2.2.2 0)) (cx_rin h x X (i := 0) (by omega) 0 (by omega)) rfl rfl
theorem n0l_ruled {n : Nat} {kk : Int32 → cz_Z} (hn : n < 6) : cz_iald (cx_set h x X) (some (x + 8 + 7)) (Int32.ofNat n) kk = kk ((X.2.2.2.2 0).2.2 12 n) := pc_iald (cx_rin h x X (i := 0) (by omega) 7 (by omega)) hn (by decide)
theorem n0_on {y : Int32} (H : cx_st h x X 0 c s nm) : fn_X3_on (some (x + 8)) y (cx_set h x X) = some (.inl (some (cz_i (sp_coatOn s y))), cx_set h x X) := by
  have e := rm_on (x := y) (H.is (i := 0) (by omega)).1 (H.is (i := 0) (by omega)).2.2.1 (H.is (i := 0) (by omega)).2.2.2.1 (H.is (i := 0) (by omega)).2.2.2.2
  rw [cx_rid h x X (i := 0) (by omega)] at e
  exact e
theorem n0_holder {y : Int32} (H : cx_st h x X 0 c s nm) : fn_X3_holder (some (x + 8)) y (cx_set h x X) = some (.inl (some (cz_i (sp_holder s y))), cx_set h x X) := by
  have e := rm_holder (x := y) (H.is (i := 0) (by omega))
  rw [cx_rid h x X (i := 0) (by omega)] at e
  exact e
theorem n0_wornBy {y : Int32} (H : cx_st h x X 0 c s nm) : fn_X3_wornBy (some (x + 8)) y (cx_set h x X) = some (.inl (some (cz_i (sp_coatsAt s y))), cx_set h x X) := by
  have e := rm_wornBy (x := y) (H.is (i := 0) (by omega)).1 (H.is (i := 0) (by omega)).2.2.1 (H.is (i := 0) (by omega)).2.2.2.1 (H.is (i := 0) (by omega)).2.2.2.2
  rw [cx_rid h x X (i := 0) (by omega)] at e
  exact e
theorem n0_chill {k : Nat} {a y : Int32} (H : cx_st h x X 0 c s nm) (hk : k < sp_n s 1) : fn_X3_chill (some (x + 8)) (Int32.ofNat k) a y (cx_set h x X) = some (.inl (some (cz_i (sp_chillIn s k y a))), cx_set h x X) := by
  have e := rm_chill (day := y) (a := a) (H.is (i := 0) (by omega)) hk
  rw [cx_rid h x X (i := 0) (by omega)] at e
  exact e
theorem n0_rulerT (H : cx_st h x X 0 c s nm) : fn_X3_ruler (some (x + 8)) 1 (cx_set h x X) = some (.inl (some (cz_i (sp_ruler s))), cx_set h x X) := by
  have e := rm_rulerT (H.is (i := 0) (by omega))
  rw [cx_rid h x X (i := 0) (by omega)] at e
  exact e
theorem n0_rulerF (H : cx_st h x X 0 c s nm) : fn_X3_ruler (some (x + 8)) 0 (cx_set h x X) = some (.inl (some (cz_i (sp_rulerBy s))), cx_set h x X) := by
  have e := rm_rulerF (H.is (i := 0) (by omega))
  rw [cx_rid h x X (i := 0) (by omega)] at e
  exact e
theorem n0_isOver (H : cx_st h x X 0 c s nm) : fn_X3_isOver (some (x + 8)) (cx_set h x X) = some (.inl (some (cz_i (if s 62 = 400 then 1 else 0))), cx_set h x X) := by
  have e := rm_isOver (h := cx_set h x X) (r := x + cx_o 0) (R := X.2.2.2.2 0) H.2.2.2
  rw [cx_rid h x X (i := 0) (by omega)] at e
  exact e
theorem n0_pass (hb : h.1.1 ≤ x) (H : cx_st h x X 0 c s nm) (hd : s 62 ≠ 400) : ∃ R : rx_R, fn_X3_pass (some (x + 8)) (cx_set h x X) = some (.inl (some (cz_i 1)), cx_set h x (cx_G X 0 R)) ∧ cx_st h x (cx_G X 0 R) 0 c (sp_day s) nm := by
  obtain ⟨R, a, -, b⟩ := rm_passSt (h := cx_set h x X) (r := x + cx_o 0) (Nat.le_add_right_of_le hb) (H.rx (by omega)) hd
  rw [cx_rid h x X (by omega), cx_rx h x X (by omega)] at a
  exact ⟨R, a, H.of b (sp_day_oq H.1.1.1).2⟩
theorem n0_passAll {N : Nat} (hb : h.1.1 ≤ x) (hN : N ≤ 400) (H : cx_st h x X 0 c s nm) : ∃ R : rx_R, fn_X3_passAll (some (x + 8)) (Int32.ofNat N) (cx_set h x X) = some (.inl (some (cz_i (Int32.ofNat (sp_goes N 0 s).1))), cx_set h x (cx_G X 0 R)) ∧ cx_st h x (cx_G X 0 R) 0 c (sp_goes N 0 s).2 nm := by
  obtain ⟨R, a, b⟩ := rm_passAll (h := cx_set h x X) (r := x + cx_o 0) (Nat.le_add_right_of_le hb) hN (H.rx (by omega))
  rw [cx_rid h x X (by omega), cx_rx h x X (by omega)] at a
  exact ⟨R, a, H.of b (sp_goes_oq _ _ _ H.1.1.1).2⟩
theorem n0_drawn {N : Nat} {y : Int32} (hb : h.1.1 ≤ x) (hN : N ≤ 400) (H : cx_st h x X 0 c s nm) : ∃ R : rx_R, fn_X3_drawn (some (x + 8)) (Int32.ofNat N) y (cx_set h x X) = some (.inl (some (cz_i (Int32.ofNat (sp_dr N 0 (y, s)).1))), cx_set h x (cx_G X 0 R)) ∧ cx_st h x (cx_G X 0 R) 0 c (sp_dr N 0 (y, s)).2.2 nm := by
  obtain ⟨R, a, b⟩ := rm_drawn (h := cx_set h x X) (r := x + cx_o 0) (x := y) (Nat.le_add_right_of_le hb) hN (H.rx (by omega))
  rw [cx_rid h x X (by omega), cx_rx h x X (by omega)] at a
  exact ⟨R, a, H.of b (sp_dr_full _ _ (y, s) H.1).2⟩
theorem n0_does {w k n e : Nat} (hb : h.1.1 ≤ x) (H : cx_st h x X 0 c s nm) (a : sp_actIn s w k n) (ha : pc_Act (cx_no h x) w k n e) : ∃ R : rx_R, fn_disp_does (some e) (some (x + 8)) (cx_set h x X) = some (.inl (some (cz_i (sp_does w k n s).1)), cx_set h x (cx_G X 0 R)) ∧ cx_st h x (cx_G X 0 R) 0 c (sp_does w k n s).2 nm := by
  obtain ⟨R, q, b⟩ := rm_does (h := cx_set h x X) (r := x + cx_o 0) (Nat.le_add_right_of_le hb) (H.rx (by omega)) a (ha.mono (cx_no_rx (by omega)))
  rw [cx_rid h x X (by omega), cx_rx h x X (by omega)] at q
  exact ⟨R, q, H.of b (sp_does_full H.1 a).2⟩
theorem n1_rc {z : cz_Z} : cz_rc (cx_set h x X) (some (x + 16)) [3] z = z := cx_rrc (i := 1) (by omega)
theorem n1_c {kk : Option Nat → cz_Z} : cz_getR (cx_set h x X) (some (x + 16)) [(3, 0)] kk = kk (X.2.2.2.2 1).1 := pc_getR (V := rx_fld (x + 16) (X.2.2.2.2 1)) (cx_rin h x X (i := 1) (by omega) 0 (by omega)) rfl rfl
theorem n1_day {kk : Int32 → cz_Z} : cz_getI (cx_set h x X) (some (x + 16)) [(3, 1)] kk = kk ((X.2.2.2.2 1).2.1 1) := pc_getI (V := rx_fld (x + 16) (X.2.2.2.2 1)) (cx_rin h x X (i := 1) (by omega) 0 (by omega)) rfl rfl
theorem n1_bares {kk : Int32 → cz_Z} : cz_getI (cx_set h x X) (some (x + 16)) [(3, 2)] kk = kk ((X.2.2.2.2 1).2.1 2) := pc_getI (V := rx_fld (x + 16) (X.2.2.2.2 1)) (cx_rin h x X (i := 1) (by omega) 0 (by omega)) rfl rfl
theorem n1_firstBare {kk : Int32 → cz_Z} : cz_getI (cx_set h x X) (some (x + 16)) [(3, 3)] kk = kk ((X.2.2.2.2 1).2.1 3) := pc_getI (V := rx_fld (x + 16) (X.2.2.2.2 1)) (cx_rin h x X (i := 1) (by omega) 0 (by omega)) rfl rfl
theorem n1_eaten {kk : Int32 → cz_Z} : cz_getI (cx_set h x X) (some (x + 16)) [(3, 4)] kk = kk ((X.2.2.2.2 1).2.1 4) := pc_getI (V := rx_fld (x + 16) (X.2.2.2.2 1)) (cx_rin h x X (i := 1) (by omega) 0 (by omega)) rfl rfl
theorem n1_queued {kk : Int32 → cz_Z} : cz_getI (cx_set h x X) (some (x + 16)) [(3, 5)] kk = kk ((X.2.2.2.2 1).2.1 5) := pc_getI (V := rx_fld (x + 16) (X.2.2.2.2 1)) (cx_rin h x X (i := 1) (by omega) 0 (by omega)) rfl rfl
theorem n1_at {kk : Option Nat → cz_Z} : cz_getR (cx_set h x X) (some (x + 16)) [(3, 6)] kk = kk (some (x + 16 + 1)) := pc_getR (V := rx_fld (x + 16) (X.2.2.2.2 1)) (cx_rin h x X (i := 1) (by omega) 0 (by omega)) rfl rfl
theorem n1l_at {n : Nat} {kk : Int32 → cz_Z} (hn : n < 8) : cz_iald (cx_set h x X) (some (x + 16 + 1)) (Int32.ofNat n) kk = kk ((X.2.2.2.2 1).2.2 6 n) := pc_iald (cx_rin h x X (i := 1) (by omega) 1 (by omega)) hn (by decide)
theorem n1_cloth {kk : Option Nat → cz_Z} : cz_getR (cx_set h x X) (some (x + 16)) [(3, 7)] kk = kk (some (x + 16 + 2)) := pc_getR (V := rx_fld (x + 16) (X.2.2.2.2 1)) (cx_rin h x X (i := 1) (by omega) 0 (by omega)) rfl rfl
theorem n1l_cloth {n : Nat} {kk : Int32 → cz_Z} (hn : n < 8) : cz_iald (cx_set h x X) (some (x + 16 + 2)) (Int32.ofNat n) kk = kk ((X.2.2.2.2 1).2.2 7 n) := pc_iald (cx_rin h x X (i := 1) (by omega) 2 (by omega)) hn (by decide)
theorem n1_user {kk : Option Nat → cz_Z} : cz_getR (cx_set h x X) (some (x + 16)) [(3, 8)] kk = kk (some (x + 16 + 3)) := pc_getR (V := rx_fld (x + 16) (X.2.2.2.2 1)) (cx_rin h x X (i := 1) (by omega) 0 (by omega)) rfl rfl
theorem n1l_user {n : Nat} {kk : Int32 → cz_Z} (hn : n < 8) : cz_iald (cx_set h x X) (some (x + 16 + 3)) (Int32.ofNat n) kk = kk ((X.2.2.2.2 1).2.2 8 n) := pc_iald (cx_rin h x X (i := 1) (by omega) 3 (by omega)) hn (by decide)
theorem n1_since {kk : Option Nat → cz_Z} : cz_getR (cx_set h x X) (some (x + 16)) [(3, 9)] kk = kk (some (x + 16 + 4)) := pc_getR (V := rx_fld (x + 16) (X.2.2.2.2 1)) (cx_rin h x X (i := 1) (by omega) 0 (by omega)) rfl rfl
theorem n1l_since {n : Nat} {kk : Int32 → cz_Z} (hn : n < 8) : cz_iald (cx_set h x X) (some (x + 16 + 4)) (Int32.ofNat n) kk = kk ((X.2.2.2.2 1).2.2 9 n) := pc_iald (cx_rin h x X (i := 1) (by omega) 4 (by omega)) hn (by decide)
theorem n1_queue {kk : Option Nat → cz_Z} : cz_getR (cx_set h x X) (some (x + 16)) [(3, 10)] kk = kk (some (x + 16 + 5)) := pc_getR (V := rx_fld (x + 16) (X.2.2.2.2 1)) (cx_rin h x X (i := 1) (by omega) 0 (by omega)) rfl rfl
theorem n1l_queue {n : Nat} {kk : Int32 → cz_Z} (hn : n < 8) : cz_iald (cx_set h x X) (some (x + 16 + 5)) (Int32.ofNat n) kk = kk ((X.2.2.2.2 1).2.2 10 n) := pc_iald (cx_rin h x X (i := 1) (by omega) 5 (by omega)) hn (by decide)
theorem n1_harm {kk : Option Nat → cz_Z} : cz_getR (cx_set h x X) (some (x + 16)) [(3, 11)] kk = kk (some (x + 16 + 6)) := pc_getR (V := rx_fld (x + 16) (X.2.2.2.2 1)) (cx_rin h x X (i := 1) (by omega) 0 (by omega)) rfl rfl
theorem n1l_harm {n : Nat} {kk : Int32 → cz_Z} (hn : n < 6) : cz_iald (cx_set h x X) (some (x + 16 + 6)) (Int32.ofNat n) kk = kk ((X.2.2.2.2 1).2.2 11 n) := pc_iald (cx_rin h x X (i := 1) (by omega) 6 (by omega)) hn (by decide)
theorem n1_ruled {kk : Option Nat → cz_Z} : cz_getR (cx_set h x X) (some (x + 16)) [(3, 12)] kk = kk (some (x + 16 + 7)) := pc_getR (V := rx_fld (x + 16) (X.2.2.2.2 1)) (cx_rin h x X (i := 1) (by omega) 0 (by omega)) rfl rfl
theorem n1l_ruled {n : Nat} {kk : Int32 → cz_Z} (hn : n < 6) : cz_iald (cx_set h x X) (some (x + 16 + 7)) (Int32.ofNat n) kk = kk ((X.2.2.2.2 1).2.2 12 n) := pc_iald (cx_rin h x X (i := 1) (by omega) 7 (by omega)) hn (by decide)
theorem n1_on {y : Int32} (H : cx_st h x X 1 c s nm) : fn_X3_on (some (x + 16)) y (cx_set h x X) = some (.inl (some (cz_i (sp_coatOn s y))), cx_set h x X) := by
  have e := rm_on (x := y) (H.is (i := 1) (by omega)).1 (H.is (i := 1) (by omega)).2.2.1 (H.is (i := 1) (by omega)).2.2.2.1 (H.is (i := 1) (by omega)).2.2.2.2
  rw [cx_rid h x X (i := 1) (by omega)] at e
  exact e
theorem n1_holder {y : Int32} (H : cx_st h x X 1 c s nm) : fn_X3_holder (some (x + 16)) y (cx_set h x X) = some (.inl (some (cz_i (sp_holder s y))), cx_set h x X) := by
  have e := rm_holder (x := y) (H.is (i := 1) (by omega))
  rw [cx_rid h x X (i := 1) (by omega)] at e
  exact e
theorem n1_wornBy {y : Int32} (H : cx_st h x X 1 c s nm) : fn_X3_wornBy (some (x + 16)) y (cx_set h x X) = some (.inl (some (cz_i (sp_coatsAt s y))), cx_set h x X) := by
  have e := rm_wornBy (x := y) (H.is (i := 1) (by omega)).1 (H.is (i := 1) (by omega)).2.2.1 (H.is (i := 1) (by omega)).2.2.2.1 (H.is (i := 1) (by omega)).2.2.2.2
  rw [cx_rid h x X (i := 1) (by omega)] at e
  exact e
theorem n1_chill {k : Nat} {a y : Int32} (H : cx_st h x X 1 c s nm) (hk : k < sp_n s 1) : fn_X3_chill (some (x + 16)) (Int32.ofNat k) a y (cx_set h x X) = some (.inl (some (cz_i (sp_chillIn s k y a))), cx_set h x X) := by
  have e := rm_chill (day := y) (a := a) (H.is (i := 1) (by omega)) hk
  rw [cx_rid h x X (i := 1) (by omega)] at e
  exact e
theorem n1_rulerT (H : cx_st h x X 1 c s nm) : fn_X3_ruler (some (x + 16)) 1 (cx_set h x X) = some (.inl (some (cz_i (sp_ruler s))), cx_set h x X) := by
  have e := rm_rulerT (H.is (i := 1) (by omega))
  rw [cx_rid h x X (i := 1) (by omega)] at e
  exact e
theorem n1_rulerF (H : cx_st h x X 1 c s nm) : fn_X3_ruler (some (x + 16)) 0 (cx_set h x X) = some (.inl (some (cz_i (sp_rulerBy s))), cx_set h x X) := by
  have e := rm_rulerF (H.is (i := 1) (by omega))
  rw [cx_rid h x X (i := 1) (by omega)] at e
  exact e
theorem n1_isOver (H : cx_st h x X 1 c s nm) : fn_X3_isOver (some (x + 16)) (cx_set h x X) = some (.inl (some (cz_i (if s 62 = 400 then 1 else 0))), cx_set h x X) := by
  have e := rm_isOver (h := cx_set h x X) (r := x + cx_o 1) (R := X.2.2.2.2 1) H.2.2.2
  rw [cx_rid h x X (i := 1) (by omega)] at e
  exact e
theorem n1_pass (hb : h.1.1 ≤ x) (H : cx_st h x X 1 c s nm) (hd : s 62 ≠ 400) : ∃ R : rx_R, fn_X3_pass (some (x + 16)) (cx_set h x X) = some (.inl (some (cz_i 1)), cx_set h x (cx_G X 1 R)) ∧ cx_st h x (cx_G X 1 R) 1 c (sp_day s) nm := by
  obtain ⟨R, a, -, b⟩ := rm_passSt (h := cx_set h x X) (r := x + cx_o 1) (Nat.le_add_right_of_le hb) (H.rx (by omega)) hd
  rw [cx_rid h x X (by omega), cx_rx h x X (by omega)] at a
  exact ⟨R, a, H.of b (sp_day_oq H.1.1.1).2⟩
theorem n1_passAll {N : Nat} (hb : h.1.1 ≤ x) (hN : N ≤ 400) (H : cx_st h x X 1 c s nm) : ∃ R : rx_R, fn_X3_passAll (some (x + 16)) (Int32.ofNat N) (cx_set h x X) = some (.inl (some (cz_i (Int32.ofNat (sp_goes N 0 s).1))), cx_set h x (cx_G X 1 R)) ∧ cx_st h x (cx_G X 1 R) 1 c (sp_goes N 0 s).2 nm := by
  obtain ⟨R, a, b⟩ := rm_passAll (h := cx_set h x X) (r := x + cx_o 1) (Nat.le_add_right_of_le hb) hN (H.rx (by omega))
  rw [cx_rid h x X (by omega), cx_rx h x X (by omega)] at a
  exact ⟨R, a, H.of b (sp_goes_oq _ _ _ H.1.1.1).2⟩
theorem n1_drawn {N : Nat} {y : Int32} (hb : h.1.1 ≤ x) (hN : N ≤ 400) (H : cx_st h x X 1 c s nm) : ∃ R : rx_R, fn_X3_drawn (some (x + 16)) (Int32.ofNat N) y (cx_set h x X) = some (.inl (some (cz_i (Int32.ofNat (sp_dr N 0 (y, s)).1))), cx_set h x (cx_G X 1 R)) ∧ cx_st h x (cx_G X 1 R) 1 c (sp_dr N 0 (y, s)).2.2 nm := by
  obtain ⟨R, a, b⟩ := rm_drawn (h := cx_set h x X) (r := x + cx_o 1) (x := y) (Nat.le_add_right_of_le hb) hN (H.rx (by omega))
  rw [cx_rid h x X (by omega), cx_rx h x X (by omega)] at a
  exact ⟨R, a, H.of b (sp_dr_full _ _ (y, s) H.1).2⟩
theorem n1_does {w k n e : Nat} (hb : h.1.1 ≤ x) (H : cx_st h x X 1 c s nm) (a : sp_actIn s w k n) (ha : pc_Act (cx_no h x) w k n e) : ∃ R : rx_R, fn_disp_does (some e) (some (x + 16)) (cx_set h x X) = some (.inl (some (cz_i (sp_does w k n s).1)), cx_set h x (cx_G X 1 R)) ∧ cx_st h x (cx_G X 1 R) 1 c (sp_does w k n s).2 nm := by
  obtain ⟨R, q, b⟩ := rm_does (h := cx_set h x X) (r := x + cx_o 1) (Nat.le_add_right_of_le hb) (H.rx (by omega)) a (ha.mono (cx_no_rx (by omega)))
  rw [cx_rid h x X (by omega), cx_rx h x X (by omega)] at q
  exact ⟨R, q, H.of b (sp_does_full H.1 a).2⟩
end CXB
