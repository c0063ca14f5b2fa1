/-! THE PLAIN LAW, 50: what is kept to be undone -/
set_option maxRecDepth 100000
/-- the state i of the store g, as a row -/
def sp_un (s g : Nat → Int32) (i : Nat) : Nat → Int32 := fun q => if 62 ≤ q ∧ q < 118 then g (56 * i + (q - 62)) else s q
/-- both keep the same states -/
def ux (x c : Nat) (X : cx_X) (M : px_M) (s : Nat → Int32) : Prop := ∃ (u : Nat) (p : Nat → Nat), u ≤ 8 ∧ X.1 8 = Int32.ofNat u ∧ M.1 23 = Int32.ofNat u ∧ (∀ i, i < 8 → p i < 8) ∧ (∀ i j, i < 8 → j < 8 → p i = p j → i = j) ∧ (∀ i, i < 8 → X.2.2.2.1 i = some (x + cx_o (4 + p i))) ∧ ∀ i, i < u → sp_full (sp_un s (M.2.2.1 21) i) ∧ (X.2.2.2.2 (4 + p i)).1 = some c ∧ rx_ok (X.2.2.2.2 (4 + p i)) (sp_un s (M.2.2.1 21) i)
theorem ux.eq {x c : Nat} {X Y : cx_X} {M N : px_M} {s : Nat → Int32} (a : cx_eq X Y) (b : px_eq M N) (h : ux x c X M s) : ux x c Y N s := by
  obtain ⟨u, p, h1, h2, h3, h4, h5, h6, h7⟩ := h
  refine ⟨u, p, h1, by rw [a.1 8 (by decide) (by decide)]; exact h2, by rw [b.1 23 (by decide)]; exact h3, h4, h5, fun i hi => by rw [a.2.2.2.1]; exact h6 i hi, fun i hi => ?_⟩
  rw [a.2.2.2.2 (4 + p i) (by omega), b.2.1 21 (by decide)]
  exact h7 i hi
theorem sp_un_mid {s t g : Nat → Int32} {i : Nat} (h : sp_mid s t) : sp_un t g i = sp_un s g i := by
  funext q
  unfold sp_un
  split
  · rfl
  · exact h q (by omega)
theorem ux.mid {x c : Nat} {X : cx_X} {M : px_M} {s t : Nat → Int32} (a : sp_mid s t) (h : ux x c X M s) : ux x c X M t := by
  obtain ⟨u, p, h1, h2, h3, h4, h5, h6, h7⟩ := h
  exact ⟨u, p, h1, h2, h3, h4, h5, h6, fun i hi => by rw [sp_un_mid a]; exact h7 i hi⟩
theorem ux.now {x c : Nat} {X : cx_X} {M : px_M} {s : Nat → Int32} {i : Nat} {R : rx_R} (hi : i < 4) (h : ux x c X M s) : ux x c (cx_G X i R) M s := by
  obtain ⟨u, p, h1, h2, h3, h4, h5, h6, h7⟩ := h
  exact ⟨u, p, h1, h2, h3, h4, h5, h6, fun j hj => by rw [cx_Gn (by omega)]; exact h7 j hj⟩
/-- one place down, up to k -/
def ux_rot (b : Nat → Option Nat) (k : Nat) : Nat → Option Nat := fun i => if i + 1 < k then b (i + 1) else b i
theorem ux_rot_step {b : Nat → Option Nat} {k : Nat} (hk : 1 ≤ k) : va_up (ux_rot b k) (k - 1) (b k) = ux_rot b (k + 1) := by
  funext i
  unfold va_up ux_rot
  by_cases e : i = k - 1
  · rw [if_pos e, if_pos (by omega)]
    congr 1
    omega
  · rw [if_neg e]
    by_cases e2 : i + 1 < k
    · rw [if_pos e2, if_pos (by omega)]
    · rw [if_neg e2, if_neg (by omega)]
section UXA
variable {h g : cz_H} {x c m : Nat} {X : cx_X} {s : Nat → Int32} {nm : Nat → Int64} {M : px_M}
theorem cm_snap_18 {b : Nat → Option Nat} {p : Nat → Nat} {k0 : cz_H → cz_Z} (hb : h.1.1 ≤ x) (hp : ∀ i, i < 8 → p i < 8) (hbp : ∀ i, i < 8 → b i = some (x + cx_o (4 + p i))) : ∀ (n f k : Nat), k + n = 8 → 1 ≤ k → n < f → fn_X1_snap_18 (some x) k0 f (Int32.ofNat k) (cx_set h x (cx_E X (ux_rot b k))) = k0 (cx_set h x (cx_E X (ux_rot b 8))) := by
  intro n
  induction n with
  | zero =>
    intro f k hk h1 hf
    obtain ⟨f, rfl⟩ : ∃ g, f = g + 1 := ⟨f - 1, by omega⟩
    rw [fn_X1_snap_18, show (8 : Int32) = Int32.ofNat 8 from rfl, if_pos (by rw [px_le (by omega) (by omega)]; omega), show k = 8 by omega]
  | succ n ih =>
    intro f k hk h1 hf
    obtain ⟨f, rfl⟩ : ∃ g, f = g + 1 := ⟨f - 1, by omega⟩
    have hpk := hp k (by omega)
    have e : (cx_E X (ux_rot b k)).2.2.2.1 k = some (x + cx_o (4 + p k)) := by
      rw [cx_E4]
      unfold ux_rot
      rw [if_neg (by omega)]
      exact hbp k (by omega)
    rw [fn_X1_snap_18, show (8 : Int32) = Int32.ofNat 8 from rfl, if_neg (by rw [px_le (by omega) (by omega)]; omega), cg_before, cg_before, cl_before (by omega), e, px_sub1 (by omega), cs_before (by omega) (by omega) hb]
    have e2 : cx_E (cx_E X (ux_rot b k)) (va_up (cx_E X (ux_rot b k)).2.2.2.1 (k - 1) (some (x + cx_o (4 + p k)))) = cx_E X (ux_rot b (k + 1)) := by
      rw [← hbp k (by omega), cx_E4, ux_rot_step h1]
      rfl
    rw [e2]
    simp only [cz_leti, px_c1r]
    exact ih f (k + 1) (by omega) (by omega) (by omega)
theorem sp_un_last {u : Nat} {g : Nat → Int32} : sp_un s (sp_cp s 62 (56 * u) 56 0 g) u = s := by
  funext q
  unfold sp_un
  split
  · rw [sp_cp_at, if_pos (by omega)]
    congr 1
    omega
  · rfl
theorem sp_un_cp {u i : Nat} {g : Nat → Int32} (hi : i < u) : sp_un s (sp_cp s 62 (56 * u) 56 0 g) i = sp_un s g i := by
  funext q
  unfold sp_un
  split
  · rw [sp_cp_at, if_neg (by omega)]
  · rfl
theorem sp_un_sh {i : Nat} {g : Nat → Int32} (hi : i < 7) : sp_un s (sp_sh 392 0 g) i = sp_un s g (i + 1) := by
  funext q
  unfold sp_un
  split
  · rw [sp_sh_at, if_pos (by omega)]
    congr 1
    omega
  · rfl
theorem cm_snap (hb : h.1.1 ≤ x) (H : cx_st h x X 0 c s nm) (U : ux x c X M s) : ∃ Y : cx_X, fn_X1_snap (some x) (cx_set h x X) = some (.inl none, cx_set h x Y) ∧ ux x c Y (sp_kA M s) s ∧ (∀ j, j ≠ 8 → Y.1 j = X.1 j) ∧ Y.2.1 = X.2.1 ∧ Y.2.2.1 = X.2.2.1 ∧ (∀ i, i < 4 → Y.2.2.2.2 i = X.2.2.2.2 i) := by
  obtain ⟨u, p, h1, h2, h3, h4, h5, h6, h7⟩ := U
  have hu : sp_u M = u := by unfold sp_u; rw [h3, Int32.toNatClampNeg_ofNat_of_lt (show u < 2 ^ 31 by omega)]
  -- the last step, for a store with a free place
  have last : ∀ (X1 : cx_X) (v : Nat) (q : Nat → Nat), v < 8 → X1.1 8 = Int32.ofNat v → (∀ i, i < 8 → q i < 8) → (∀ i, i < 8 → X1.2.2.2.1 i = some (x + cx_o (4 + q i))) → cz_getR (cx_set h x X1) (some x) [(0, 7)] (fun r3 => cz_getI (cx_set h x X1) (some x) [(0, 8)] (fun x4 => cz_aald (cx_set h x X1) r3 x4 (fun r5 => cz_getR (cx_set h x X1) (some x) [(0, 4)] (fun r6 => cz_rc (cx_set h x X1) r5 [3] (cz_cR (fn_X3_as r5 r6 (cx_set h x X1)) (fun r14 h13 => cz_getI h13 (some x) [(0, 8)] (fun x15 => cz_put h13 (some x) [(0, 8)] (cz_i (x15 + 1)) (fun h16 => some (.inl none, h16))))))))) = some (.inl none, cx_set h x (cx_I (cx_G X1 (4 + q v) (rx_as (X1.2.2.2.2 (4 + q v)) (X1.2.2.2.2 0))) 8 (Int32.ofNat (v + 1)))) := by
    intro X1 v q hv e8 hq hbq
    have hqv := hq v hv
    rw [cg_before, cg_befores, e8, cl_before hv, hbq v hv, cg_now, cx_rrc (by omega)]
    have e := cx_as (h := h) (x := x) (X := X1) (i := 4 + q v) (j := 0) hb (by omega) (by omega) (by omega)
    have e' : fn_X3_as (some (x + cx_o (4 + q v))) (some (x + 8)) (cx_set h x X1) = _ := e
    rw [e', px_cR, cg_befores, cx_G1, e8, cp_befores hb, px_c1r]
  by_cases e8 : u = 8
  · subst e8
    let q : Nat → Nat := fun i => if i < 7 then p (i + 1) else p 0
    have hq : ∀ i, i < 8 → q i < 8 := fun i hi => by
      show (if i < 7 then p (i + 1) else p 0) < 8
      split
      · exact h4 _ (by omega)
      · exact h4 0 (by omega)
    have eb : ∀ i, i < 8 → va_up (ux_rot X.2.2.2.1 8) 7 (X.2.2.2.1 0) i = some (x + cx_o (4 + q i)) := fun i hi => by
      show (if i = 7 then X.2.2.2.1 0 else ux_rot X.2.2.2.1 8 i) = some (x + cx_o (4 + (if i < 7 then p (i + 1) else p 0)))
      by_cases ei : i = 7
      · rw [if_pos ei, if_neg (by omega)]; exact h6 0 (by omega)
      · rw [if_neg ei, if_pos (by omega)]
        unfold ux_rot
        rw [if_pos (by omega)]
        exact h6 (i + 1) (by omega)
    have r0 : cx_E X (ux_rot X.2.2.2.1 1) = X := by
      have : ux_rot X.2.2.2.1 1 = X.2.2.2.1 := by funext i; unfold ux_rot; rw [if_neg (by omega)]
      rw [this]
      rfl
    have hp0 := h4 0 (by omega)
    refine ⟨cx_I (cx_G (cx_I (cx_E X (va_up (ux_rot X.2.2.2.1 8) 7 (X.2.2.2.1 0))) 8 (Int32.ofNat 7)) (4 + q 7) (rx_as (X.2.2.2.2 (4 + q 7)) (X.2.2.2.2 0))) 8 (Int32.ofNat 8), ?_, ?_, ?_, ?_, ?_, ?_⟩
    rotate_left
    · have kA : sp_kA M s = px_B (px_I M 23 (Int32.ofNat 8)) 21 (sp_cp s 62 392 56 0 (sp_sh 392 0 (M.2.2.1 21))) := by unfold sp_kA; rw [if_pos hu]
      refine ⟨8, q, Nat.le_refl _, cx_Ie, ?_, hq, ?_, ?_, fun i hi => ?_⟩
      · rw [kA, px_B1, px_I1]
      · intro i j hi hj hij
        have hij : (if i < 7 then p (i + 1) else p 0) = (if j < 7 then p (j + 1) else p 0) := hij
        by_cases a : i < 7 <;> by_cases b : j < 7
        · rw [if_pos a, if_pos b] at hij
          have := h5 _ _ (by omega) (by omega) hij
          omega
        · rw [if_pos a, if_neg b] at hij
          have := h5 _ _ (by omega) (by omega) hij
          omega
        · rw [if_neg a, if_pos b] at hij
          have := h5 _ _ (by omega) (by omega) hij
          omega
        · omega
      · exact eb
      · have e21 : (sp_kA M s).2.2.1 21 = sp_cp s 62 (56 * 7) 56 0 (sp_sh 392 0 (M.2.2.1 21)) := by rw [kA]; exact px_B3
        rw [e21]
        have q7 : q 7 = p 0 := rfl
        by_cases ei : i = 7
        · subst ei
          have a := rx_as_ok (R := X.2.2.2.2 (4 + q 7)) H.1.1.1 H.2.2.2
          rw [sp_un_last]
          have eg : (cx_I (cx_G (cx_I (cx_E X (va_up (ux_rot X.2.2.2.1 8) 7 (X.2.2.2.1 0))) 8 (Int32.ofNat 7)) (4 + q 7) (rx_as (X.2.2.2.2 (4 + q 7)) (X.2.2.2.2 0))) 8 (Int32.ofNat 8)).2.2.2.2 (4 + q 7) = rx_as (X.2.2.2.2 (4 + q 7)) (X.2.2.2.2 0) := cx_Ge
          rw [eg]
          exact ⟨H.1, a.2.trans H.2.1, a.1⟩
        · have hi7 : i < 7 := by omega
          have qi : q i = p (i + 1) := if_pos hi7
          rw [sp_un_cp (by omega), sp_un_sh hi7]
          have ne : 4 + q i ≠ 4 + q 7 := by
            rw [q7, qi]
            intro e
            have := h5 (i + 1) 0 (by omega) (by omega) (by omega)
            omega
          have eg : (cx_I (cx_G (cx_I (cx_E X (va_up (ux_rot X.2.2.2.1 8) 7 (X.2.2.2.1 0))) 8 (Int32.ofNat 7)) (4 + q 7) (rx_as (X.2.2.2.2 (4 + q 7)) (X.2.2.2.2 0))) 8 (Int32.ofNat 8)).2.2.2.2 (4 + q i) = X.2.2.2.2 (4 + q i) := (cx_Gn (X := cx_I (cx_E X (va_up (ux_rot X.2.2.2.1 8) 7 (X.2.2.2.1 0))) 8 (Int32.ofNat 7)) ne)
          rw [eg, qi]
          exact h7 (i + 1) (by omega)
    · intro j hj
      rw [cx_In hj]
      exact cx_In hj
    · rfl
    · rfl
    · intro i hi
      exact cx_Gn (X := cx_I (cx_E X (va_up (ux_rot X.2.2.2.1 8) 7 (X.2.2.2.1 0))) 8 (Int32.ofNat 7)) (by omega)
    · rw [fn_X1_snap, cg_befores, h2]
      simp only [cz_jn]
      rw [if_pos (show Int32.ofNat 8 = 8 from rfl), cg_before]
      have l0 : cz_aald (cx_set h x X) (some (x + 24)) 0 = fun kk => kk (some (x + cx_o (4 + p 0))) := by
        funext kk
        have := cl_before (h := h) (x := x) (X := X) (n := 0) (kk := kk) (by omega)
        rw [h6 0 (by omega)] at this
        exact this
      rw [l0]
      dsimp only
      have sn := cm_snap_18 (h := h) (x := x) (X := X) (b := X.2.2.2.1) (p := p) (k0 := fun (h25 : cz_H) => cz_getR h25 (some x) [(0, 7)] (fun r26 => cz_aast h25 r26 7 (some (x + cx_o (4 + p 0))) (fun h27 => cz_getI h27 (some x) [(0, 8)] (fun x28 => cz_put h27 (some x) [(0, 8)] (cz_i (x28 - 1)) (fun h29 => cz_getR h29 (some x) [(0, 7)] (fun r3 => cz_getI h29 (some x) [(0, 8)] (fun x4 => cz_aald h29 r3 x4 (fun r5 => cz_getR h29 (some x) [(0, 4)] (fun r6 => cz_rc h29 r5 [3] (cz_cR (fn_X3_as r5 r6 h29) (fun r14 h13 => cz_getI h13 (some x) [(0, 8)] (fun x15 => cz_put h13 (some x) [(0, 8)] (cz_i (x15 + 1)) (fun h16 => some (.inl none, h16)))))))))))))) hb h4 h6 7 1000 1 rfl (Nat.le_refl _) (by omega)
      rw [r0] at sn
      refine sn.trans ?_
      rw [cg_before, show (7 : Int32) = Int32.ofNat 7 from rfl, cs_before (by omega) (show 4 + p 0 < 12 by omega) hb, cg_befores, cp_befores hb]
      have X1e : cx_I (cx_E (cx_E X (ux_rot X.2.2.2.1 8)) (va_up (cx_E X (ux_rot X.2.2.2.1 8)).2.2.2.1 7 (some (x + cx_o (4 + p 0))))) 8 ((cx_E (cx_E X (ux_rot X.2.2.2.1 8)) (va_up (cx_E X (ux_rot X.2.2.2.1 8)).2.2.2.1 7 (some (x + cx_o (4 + p 0))))).1 8 - 1) = cx_I (cx_E X (va_up (ux_rot X.2.2.2.1 8) 7 (X.2.2.2.1 0))) 8 (Int32.ofNat 7) := by
        rw [h6 0 (by omega)]
        have : (cx_E (cx_E X (ux_rot X.2.2.2.1 8)) (va_up (cx_E X (ux_rot X.2.2.2.1 8)).2.2.2.1 7 (some (x + cx_o (4 + p 0))))).1 8 - 1 = Int32.ofNat 7 := by
          show X.1 8 - 1 = _
          rw [h2]
          rfl
        rw [this]
        rfl
      rw [X1e]
      exact last _ 7 q (by omega) cx_Ie hq eb
  · refine ⟨cx_I (cx_G X (4 + p u) (rx_as (X.2.2.2.2 (4 + p u)) (X.2.2.2.2 0))) 8 (Int32.ofNat (u + 1)), ?_, ?_, ?_, ?_, ?_, ?_⟩
    rotate_left
    · have kA : sp_kA M s = px_B (px_I M 23 (Int32.ofNat (u + 1))) 21 (sp_cp s 62 (56 * u) 56 0 (M.2.2.1 21)) := by unfold sp_kA; rw [hu, if_neg e8]
      refine ⟨u + 1, p, by omega, cx_Ie, ?_, h4, h5, h6, fun i hi => ?_⟩
      · rw [kA, px_B1, px_I1]
      · have e21 : (sp_kA M s).2.2.1 21 = sp_cp s 62 (56 * u) 56 0 (M.2.2.1 21) := by rw [kA]; exact px_B3
        rw [e21]
        by_cases ei : i = u
        · subst ei
          have a := rx_as_ok (R := X.2.2.2.2 (4 + p i)) H.1.1.1 H.2.2.2
          rw [sp_un_last]
          have eg : (cx_I (cx_G X (4 + p i) (rx_as (X.2.2.2.2 (4 + p i)) (X.2.2.2.2 0))) 8 (Int32.ofNat (i + 1))).2.2.2.2 (4 + p i) = rx_as (X.2.2.2.2 (4 + p i)) (X.2.2.2.2 0) := cx_Ge
          rw [eg]
          exact ⟨H.1, a.2.trans H.2.1, a.1⟩
        · have hiu : i < u := by omega
          rw [sp_un_cp hiu]
          have ne : 4 + p i ≠ 4 + p u := by
            intro e
            exact ei (h5 i u (by omega) (by omega) (by omega))
          have eg : (cx_I (cx_G X (4 + p u) (rx_as (X.2.2.2.2 (4 + p u)) (X.2.2.2.2 0))) 8 (Int32.ofNat (u + 1))).2.2.2.2 (4 + p i) = X.2.2.2.2 (4 + p i) := cx_Gn ne
          rw [eg]
          exact h7 i hiu
    · intro j hj
      rw [cx_In hj]
      rfl
    · rfl
    · rfl
    · intro i hi
      exact cx_Gn (by omega)
    · rw [fn_X1_snap, cg_befores, h2]
      simp only [cz_jn]
      rw [if_neg (show ¬ Int32.ofNat u = 8 by rw [show (8 : Int32) = Int32.ofNat 8 from rfl, px_inj (by omega) (by omega)]; exact e8)]
      exact last X u p (by omega) h2 h4 h6
end UXA
