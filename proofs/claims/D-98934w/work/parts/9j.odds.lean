/-! THE PLAIN LAW, 49: harm to come, odds -/
set_option maxRecDepth 100000
noncomputable def sp_od1 (s : Nat → Int32) (y : Nat) (z : Int32) (k : Nat) (a : Int32) : Int32 := if (sp_dr 20 0 (z + Int32.ofNat k, s)).2.2 (103 + y) ≤ s (103 + y) then a else a + 1
section ODA
variable {h g : cz_H} {x c m : Nat} {X : cx_X} {s : Nat → Int32} {nm : Nat → Int64} {M : px_M}
theorem qb_harm {y n : Int32} (hb : h.1.1 ≤ x) (hc : X.2.1 0 = some c) (H : cx_st h x X 0 c s nm) : qb h x X s M (fun r g => fn_X1_harm r y n g) (fun r g => fn_X5_harm r y n g) := by
  have ok := H.1.1.1.1
  have h6 := ok.2.1.2
  unfold qb
  dsimp only
  by_cases t1 : ¬ (0 ≤ y ∧ y ≤ Int32.ofNat (sp_n s 1) - 1)
  · refine ⟨-1, X, px_I M 0 0, ?_, cx_eq.rf, px_eq.I (by decide), fun g m hb => ?_⟩
    · rw [fn_X1_harm, cx_rc, cm_isMan hc H, px_cI, if_neg t1, if_pos rfl]
    · rw [fn_X5_harm]
      simp (disch := first | assumption | omega) only [pp_thrown, px_SI, px_rc, pm_isMan ok, px_cI]
      rw [if_neg t1, if_pos rfl]
  have t1 := Classical.not_not.mp t1
  by_cases t2 : ¬ (1 ≤ n ∧ n ≤ 60)
  · refine ⟨-1, X, px_I M 0 0, ?_, cx_eq.rf, px_eq.I (by decide), fun g m hb => ?_⟩
    · rw [fn_X1_harm, cx_rc, cm_isMan hc H, px_cI, if_pos t1, if_neg (by decide), pc_isIn, px_cI, if_neg t2, if_pos rfl]
    · rw [fn_X5_harm]
      simp (disch := first | assumption | omega) only [pp_thrown, px_SI, px_rc, pm_isMan ok, px_cI]
      rw [if_pos t1, if_neg (by decide), pm_isIn, px_cI, if_neg t2, if_pos rfl]
  have t2 := Classical.not_not.mp t2
  have t1' := t1
  rw [px_range (by omega)] at t1'
  obtain ⟨k, hk, rfl⟩ := t1'
  have t2' := t2
  obtain ⟨N, -, hN, rfl⟩ := px_60 t2'
  obtain ⟨e1, H1⟩ := cm_trial hb H
  obtain ⟨R, r1, r2⟩ := n1_passAll (N := N) hb (by omega) H1
  have s1 : sp_n (sp_goes N 0 s).2 1 = sp_n s 1 := (sp_goes_oq N 0 s H.1.1.1).2.n (by omega)
  refine ⟨(sp_goes N 0 s).2 (97 + k) - s (97 + k), cx_G (cx_G X 1 (rx_as (X.2.2.2.2 1) (X.2.2.2.2 0))) 1 R, px_B (px_I M 0 0) 22 (sp_cp s 62 0 56 0 (M.2.2.1 22)), ?_, cx_eq.G.tr cx_eq.G, (px_eq.I (by decide)).tr (px_eq.B (by decide)), fun g m hb => ?_⟩
  · rw [fn_X1_harm, cx_rc, cm_isMan hc H, px_cI, if_pos t1, if_neg (by decide), pc_isIn, px_cI, if_pos t2, if_neg (by decide), cg_trial, cg_now, n1_rc, e1, px_cR, n1_rc, r1, px_cI, cg_trial, n1_harm, n1l_harm (by omega), cg_now, n0_harm, n0l_harm (by omega)]
    rw [(r2.2.2.2.2.2.2.2.2.2.2 k (by omega)).1, cx_Gn (by decide), cx_Gn (by decide), (H.2.2.2.2.2.2.2.2.2.2 k hk).1]
  · rw [fn_X5_harm]
    simp (disch := first | assumption | omega) only [pp_thrown, px_SI, px_rc, pm_isMan ok, px_cI]
    rw [if_pos t1, if_neg (by decide), pm_isIn, px_cI, if_pos t2, if_neg (by decide), px_rc, pm_tries hb, px_cV, pr_s, px_c97, qln (by omega), px_rc, pm_goesOn hb (by omega) H.1.1.1, px_cI, pr_s, qln (by omega)]
    simp only [cz_leti]
    rw [px_rc, pm_back hb, px_cV, px_B3, sp_back (sp_goes_mid N 0 s H.1)]
    rfl
theorem pm_odds_44 {y N : Nat} {z : Int32} {k0 : Int32 → cz_H → cz_Z} (hb : g.1.1 ≤ m) (F : sp_full s) (hy : y < 6) (hN : N ≤ 30) (hB : M.2.2.1 22 = sp_cp s 62 0 56 0 (M.2.2.1 22)) : ∀ (n f k : Nat) (a w : Int32), k + n = N → n < f → ∃ w', fn_X5_odds_44 (some m) (Int32.ofNat y) (Int32.ofNat N) z k0 f a (Int32.ofNat k) (px_set g m (px_S (px_I M 35 w) s)) = k0 (sp_fold (sp_od1 s y z) n k a) (px_set g m (px_S (px_I M 35 w') s)) := by
  intro n
  induction n with
  | zero =>
    intro f k a w hk hf
    obtain ⟨f, rfl⟩ : ∃ g, f = g + 1 := ⟨f - 1, by omega⟩
    exact ⟨w, by rw [fn_X5_odds_44, if_pos (by rw [px_le (by omega) (by omega)]; omega)]; rfl⟩
  | succ n ih =>
    intro f k a w hk hf
    obtain ⟨f, rfl⟩ : ∃ g, f = g + 1 := ⟨f - 1, by omega⟩
    have dr := pm_draws (h := g) (m := m) (M := px_I M 35 w) (s := s) (N := 20) (x := z + Int32.ofNat k) hb (by omega) F
    have bk : ∀ v : Int32, fn_X5_back (some m) (px_set g m (px_S (px_I M 35 v) (sp_dr 20 0 (z + Int32.ofNat k, s)).2.2)) = some (.inl none, px_set g m (px_S (px_I M 35 v) s)) := fun v => by
      rw [pm_back hb]
      have e : (px_I M 35 v).2.2.1 22 = M.2.2.1 22 := rfl
      rw [e, hB, sp_back (sp_dr_mid 20 0 (z + Int32.ofNat k, s) F)]
    obtain ⟨w1, i1⟩ := ih f (k + 1) (sp_od1 s y z k a) (sp_dr 20 0 (z + Int32.ofNat k, s)).2.1 (by omega) (by omega)
    refine ⟨w1, ?_⟩
    rw [sp_fold]
    refine Eq.trans ?_ i1
    rw [fn_X5_odds_44, if_neg (by rw [px_le (by omega) (by omega)]; omega), pr_s, px_c103, qln (by omega), px_rc, show (20 : Int32) = Int32.ofNat 20 from rfl, dr, px_cI, pr_s, qln (by omega), px_II]
    unfold sp_od1
    split
    · simp only [cz_leti, px_rc, bk, px_cV, px_c1r, Int32.add_zero]
    · simp only [cz_leti, px_rc, bk, px_cV, px_c1r]
theorem cm_odds_33 {y N : Nat} {z : Int32} {k0 : Int32 → cz_H → cz_Z} (hb : h.1.1 ≤ x) (hy : y < sp_n s 1) (hN : N ≤ 30) : ∀ (n f k : Nat) (a : Int32) (X : cx_X), cx_st h x X 0 c s nm → k + n = N → n < f → ∃ R : rx_R, fn_X1_odds_33 (some x) (Int32.ofNat y) (Int32.ofNat N) z k0 f a (Int32.ofNat k) (cx_set h x X) = k0 (sp_fold (sp_od1 s y z) n k a) (cx_set h x (cx_G X 1 R)) := by
  intro n
  induction n with
  | zero =>
    intro f k a X H hk hf
    obtain ⟨f, rfl⟩ : ∃ g, f = g + 1 := ⟨f - 1, by omega⟩
    exact ⟨X.2.2.2.2 1, by rw [fn_X1_odds_33, if_pos (by rw [px_le (by omega) (by omega)]; omega), cx_Gid]; rfl⟩
  | succ n ih =>
    intro f k a X H hk hf
    obtain ⟨f, rfl⟩ : ∃ g, f = g + 1 := ⟨f - 1, by omega⟩
    have h6 := H.1.1.1.1.2.1.2
    obtain ⟨e1, H1⟩ := cm_trial hb H
    obtain ⟨R, r1, r2⟩ := n1_drawn (N := 20) (y := z + Int32.ofNat k) hb (by omega) H1
    have s1 : sp_n (sp_dr 20 0 (z + Int32.ofNat k, s)).2.2 1 = sp_n s 1 := (sp_dr_mid 20 0 (z + Int32.ofNat k, s) H.1).same.n (by omega)
    have H2 : cx_st h x (cx_G (cx_G X 1 (rx_as (X.2.2.2.2 1) (X.2.2.2.2 0))) 1 R) 0 c s nm := (H.other (by decide)).other (by decide)
    obtain ⟨R2, i1⟩ := ih f (k + 1) (sp_od1 s y z k a) _ H2 (by omega) (by omega)
    refine ⟨R2, ?_⟩
    rw [sp_fold]
    rw [cx_GG, cx_GG] at i1
    refine Eq.trans ?_ i1
    rw [fn_X1_odds_33, if_neg (by rw [px_le (by omega) (by omega)]; omega), cg_trial, cg_now, n1_rc, e1, px_cR, n1_rc, show (20 : Int32) = Int32.ofNat 20 from rfl, r1, px_cI, cg_trial, n1_ruled, n1l_ruled (by omega), cg_now, n0_ruled, n0l_ruled (by omega), (r2.2.2.2.2.2.2.2.2.2.2 y (by omega)).2, cx_Gn (by decide), cx_Gn (by decide), (H.2.2.2.2.2.2.2.2.2.2 y hy).2, cx_GG]
    unfold sp_od1
    simp only [cz_leti, px_c1r]
    split <;> rfl
theorem sp_cp_idem {s g : Nat → Int32} : sp_cp s 62 0 56 0 g = sp_cp s 62 0 56 0 (sp_cp s 62 0 56 0 g) := by
  funext q
  rw [sp_cp_at, sp_cp_at]
  split
  · rfl
  · rename_i e
    rw [sp_cp_at, if_neg e]
theorem qb_odds {y n z : Int32} (hb : h.1.1 ≤ x) (hc : X.2.1 0 = some c) (H : cx_st h x X 0 c s nm) : ∃ (a : Int32) (Y : cx_X), fn_X1_odds (some x) y n z (cx_set h x X) = some (.inl (some (cz_i a)), cx_set h x Y) ∧ cx_eq X Y ∧ ∀ (g : cz_H) (m : Nat), g.1.1 ≤ m → ∃ N : px_M, px_eq M N ∧ fn_X5_odds (some m) y n z (px_set g m (px_S M s)) = some (.inl (some (cz_i a)), px_set g m (px_S N s)) := by
  have ok := H.1.1.1.1
  have h6 := ok.2.1.2
  have h8 := ok.2.2.1.2
  by_cases t1 : ¬ (0 ≤ y ∧ y ≤ Int32.ofNat (sp_n s 1) - 1)
  · refine ⟨-1, X, ?_, cx_eq.rf, fun g m hb => ⟨px_I M 0 0, px_eq.I (by decide), ?_⟩⟩
    · rw [fn_X1_odds, cx_rc, cm_isMan hc H, px_cI, if_neg t1, if_pos rfl]
    · rw [fn_X5_odds]
      simp (disch := first | assumption | omega) only [pp_thrown, px_SI, px_rc, pm_isMan ok, px_cI]
      rw [if_neg t1, if_pos rfl]
  have t1 := Classical.not_not.mp t1
  by_cases t2 : ¬ (1 ≤ n ∧ n ≤ 30)
  · refine ⟨-1, X, ?_, cx_eq.rf, fun g m hb => ⟨px_I M 0 0, px_eq.I (by decide), ?_⟩⟩
    · rw [fn_X1_odds, cx_rc, cm_isMan hc H, px_cI, if_pos t1, if_neg (by decide), pc_isIn, px_cI, if_neg t2, if_pos rfl]
    · rw [fn_X5_odds]
      simp (disch := first | assumption | omega) only [pp_thrown, px_SI, px_rc, pm_isMan ok, px_cI]
      rw [if_pos t1, if_neg (by decide), pm_isIn, px_cI, if_neg t2, if_pos rfl]
  have t2 := Classical.not_not.mp t2
  have q2 : (Int32.ofNat (sp_n s 2) = 0) = (s 2 = 0) := by rw [← ok.2.2.1.1]
  by_cases t3 : s 2 = 0
  · refine ⟨-1, X, ?_, cx_eq.rf, fun g m hb => ⟨px_I M 0 0, px_eq.I (by decide), ?_⟩⟩
    · rw [fn_X1_odds, cx_rc, cm_isMan hc H, px_cI, if_pos t1, if_neg (by decide), pc_isIn, px_cI, if_pos t2, if_neg (by decide), cx_rc, cm_coats hc H, px_cI, if_pos (by rw [q2]; exact t3)]
    · rw [fn_X5_odds]
      simp (disch := first | assumption | omega) only [pp_thrown, px_SI, px_rc, pm_isMan ok, px_cI]
      rw [if_pos t1, if_neg (by decide), pm_isIn, px_cI, if_pos t2, if_neg (by decide), pr_s, ql_2, if_pos t3]
  have t1' := t1
  rw [px_range (by omega)] at t1'
  obtain ⟨k, hk, rfl⟩ := t1'
  have t2' : ∃ N, N ≤ 30 ∧ n = Int32.ofNat N := by
    have : (0 : Int32) ≤ n ∧ n ≤ Int32.ofNat 31 - 1 := ⟨Int32.le_trans (by decide) t2.1, t2.2⟩
    rw [px_range (by omega)] at this
    obtain ⟨N, h1, h2⟩ := this
    exact ⟨N, by omega, h2⟩
  obtain ⟨N, hN, rfl⟩ := t2'
  obtain ⟨R, r⟩ := cm_odds_33 (z := z) (k0 := fun (e46 : Int32) (h47 : cz_H) => some (.inl (some (cz_i e46)), h47)) hb hk hN N 1000 0 0 X H (Nat.zero_add _) (by omega)
  refine ⟨sp_fold (sp_od1 s k z) N 0 0, cx_G X 1 R, ?_, cx_eq.G, fun g m hb => ?_⟩
  · rw [fn_X1_odds, cx_rc, cm_isMan hc H, px_cI, if_pos t1, if_neg (by decide), pc_isIn, px_cI, if_pos t2, if_neg (by decide), cx_rc, cm_coats hc H, px_cI, if_neg (by rw [q2]; exact t3)]
    exact r
  · obtain ⟨w, e⟩ := pm_odds_44 (M := px_B (px_I M 0 0) 22 (sp_cp s 62 0 56 0 (M.2.2.1 22))) (z := z) (k0 := fun (e51 : Int32) (h52 : cz_H) => some (.inl (some (cz_i e51)), h52)) hb H.1 (show k < 6 by omega) hN (by rw [px_B3]; exact sp_cp_idem) N 1000 0 0 (M.1 35) (Nat.zero_add _) (by omega)
    rw [px_Iid (M := px_B (px_I M 0 0) 22 (sp_cp s 62 0 56 0 (M.2.2.1 22))) (by rw [px_B1, px_I1n (by decide)])] at e
    refine ⟨_, (px_eq.I (M := M) (j := 0) (v := 0) (by decide)).tr ((px_eq.B (j := 22) (g := sp_cp s 62 0 56 0 (M.2.2.1 22)) (by decide)).tr (px_eq.I (j := 35) (v := w) (by decide))), ?_⟩
    rw [fn_X5_odds]
    simp (disch := first | assumption | omega) only [pp_thrown, px_SI, px_rc, pm_isMan ok, px_cI]
    rw [if_pos t1, if_neg (by decide), pm_isIn, px_cI, if_pos t2, if_neg (by decide), pr_s, ql_2, if_neg t3, px_rc, pm_tries hb, px_cV]
    exact e
end ODA
