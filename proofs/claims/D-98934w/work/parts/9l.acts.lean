/-! THE PLAIN LAW, 51: the heap grows; acts -/
set_option maxRecDepth 100000
theorem pc_put {h : cz_H} {a ci j : Nat} {V : Nat → cz_v} {js : List (Nat × Nat)} {v : cz_v} {kk : cz_H → cz_Z} (hc : h.2.2.2 a = some (.inl (ci, V))) (hl : cz_lk js ci = some j) (hb : h.1.1 ≤ a) : cz_put h (some a) js v kk = kk (cz_set h a (.inl (ci, fun q => if q = j then v else V q))) := by
  unfold cz_put
  dsimp only
  rw [hc]
  dsimp only
  rw [hl]
  exact if_pos hb
theorem pc_nn {a : Nat} {z : cz_Z} : cz_nn' (some a) z = z := rfl
theorem cx_sets {h : cz_H} {x a : Nat} {X : cx_X} {c : cz_C} (ha : x + 109 ≤ a) : cz_set (cx_set h x X) a c = cx_set (cz_set h a c) x X := by
  unfold cz_set cx_set
  refine Prod.ext rfl (Prod.ext rfl (Prod.ext rfl ?_))
  funext q
  dsimp only
  unfold cx_get
  by_cases hq : q = a
  · rw [if_pos hq, if_neg (by omega)]
    exact (if_pos hq).symm
  · rw [if_neg hq]
    have e : (fun q => if q = a then some c else h.2.2.2 q) q = h.2.2.2 q := if_neg hq
    rw [e]
theorem cz_new_at {h : cz_H} {c : cz_C} {n : Nat} : (cz_new h c n).2.2.2 h.2.1 = some c := if_pos rfl
theorem cz_new_set {h : cz_H} {c d : cz_C} {n : Nat} : cz_set (cz_new h c n) h.2.1 d = cz_new h d n := by
  unfold cz_set cz_new
  refine Prod.ext rfl (Prod.ext rfl (Prod.ext rfl ?_))
  funext q
  dsimp only
  split <;> rfl
/-- how the heap grows -/
def hg (x : Nat) (h k : cz_H) : Prop := k.1 = h.1 ∧ h.2.1 ≤ k.2.1 ∧ (∀ a v, cx_no h x a = some v → cx_no k x a = some v) ∧ ((∀ a, h.2.1 ≤ a → h.2.2.2 a = none) → ∀ a, k.2.1 ≤ a → k.2.2.2 a = none)
theorem hg.rf {x : Nat} {h : cz_H} : hg x h h := ⟨rfl, Nat.le_refl _, fun _ _ e => e, fun e => e⟩
theorem hg.tr {x : Nat} {h k l : cz_H} (a : hg x h k) (b : hg x k l) : hg x h l := ⟨b.1.trans a.1, Nat.le_trans a.2.1 b.2.1, fun q v e => b.2.2.1 q v (a.2.2.1 q v e), fun e => b.2.2.2 (a.2.2.2 e)⟩
theorem hg_new {x : Nat} {h : cz_H} {c : cz_C} {n : Nat} (hf : h.2.2.2 h.2.1 = none) : hg x h (cz_new h c n) := by
  refine ⟨rfl, Nat.le_succ _, fun a v e => ?_, fun e a ha => ?_⟩
  · unfold cx_no at e ⊢
    split at e
    · cases e
    · rename_i hq
      rw [if_neg hq]
      show (if a = h.2.1 then some c else h.2.2.2 a) = some v
      rw [if_neg (fun q => by rw [q, hf] at e; cases e)]
      exact e
  · have ha : h.2.1 + 1 ≤ a := ha
    show (if a = h.2.1 then some c else h.2.2.2 a) = none
    rw [if_neg (by omega)]
    exact e a (by omega)
theorem cx_st.grow {h k : cz_H} {x i c : Nat} {X : cx_X} {s : Nat → Int32} {nm : Nat → Int64} (a : hg x h k) (H : cx_st h x X i c s nm) : cx_st k x X i c s nm := ⟨H.1, H.2.1, H.2.2.1.mono a.2.2.1, H.2.2.2⟩
/-- an act leaves all but this as it is -/
def cx_ac (X Y : cx_X) : Prop := (∀ j, j ≠ 8 → j ≠ 11 → j ≠ 12 → Y.1 j = X.1 j) ∧ Y.2.1 = X.2.1 ∧ Y.2.2.1 = X.2.2.1 ∧ ∀ i, i = 2 ∨ i = 3 → Y.2.2.2.2 i = X.2.2.2.2 i
def px_ac (M N : px_M) : Prop := (∀ j, j ∈ [2, 15, 24, 25, 26, 27, 29, 30, 31, 33, 34, 38] → N.1 j = M.1 j) ∧ (∀ j, j ∈ [1, 37, 46, 48] → N.2.2.1 j = M.2.2.1 j) ∧ (∀ i, i < 22 → N.2.2.2 9 i = M.2.2.2 9 i) ∧ N.2.2.2 10 = M.2.2.2 10 ∧ N.2.2.2 47 = M.2.2.2 47
theorem cx_ac.rf {X : cx_X} : cx_ac X X := ⟨fun _ _ _ _ => rfl, rfl, rfl, fun _ _ => rfl⟩
theorem cx_ac.tr {X Y Z : cx_X} (a : cx_ac X Y) (b : cx_ac Y Z) : cx_ac X Z := ⟨fun j h1 h2 h3 => (b.1 j h1 h2 h3).trans (a.1 j h1 h2 h3), b.2.1.trans a.2.1, b.2.2.1.trans a.2.2.1, fun i hi => (b.2.2.2 i hi).trans (a.2.2.2 i hi)⟩
theorem cx_eq.ac {X Y : cx_X} (a : cx_eq X Y) : cx_ac X Y := ⟨fun j _ h2 h3 => a.1 j h2 h3, a.2.1, a.2.2.1, fun i hi => a.2.2.2.2 i (by omega)⟩
theorem cx_ac.G {X : cx_X} {i : Nat} {R : rx_R} (hi : i < 2) : cx_ac X (cx_G X i R) := ⟨fun _ _ _ _ => rfl, rfl, rfl, fun j hj => cx_Gn (by omega)⟩
theorem px_ac.tr {M N P : px_M} (a : px_ac M N) (b : px_ac N P) : px_ac M P := ⟨fun j h => (b.1 j h).trans (a.1 j h), fun j h => (b.2.1 j h).trans (a.2.1 j h), fun i h => (b.2.2.1 i h).trans (a.2.2.1 i h), b.2.2.2.1.trans a.2.2.2.1, b.2.2.2.2.trans a.2.2.2.2⟩
theorem px_eq.ac {M N : px_M} (a : px_eq M N) : px_ac M N := ⟨fun j h => a.1 j (by
    simp only [List.mem_cons, List.not_mem_nil, or_false] at h ⊢
    omega), fun j h => a.2.1 j (by
    simp only [List.mem_cons, List.not_mem_nil, or_false] at h ⊢
    omega), a.2.2.1, a.2.2.2.1, a.2.2.2.2⟩
theorem px_ac.kA {M : px_M} {s : Nat → Int32} : px_ac M (sp_kA M s) := by
  have key : ∀ (v : Int32) (g : Nat → Int32), px_ac M (px_B (px_I M 23 v) 21 g) := fun v g => ⟨fun j h => by
      rw [px_B1]
      exact px_I1n (by
        intro e
        subst e
        simp at h), fun j h => if_neg (by
        intro e
        subst e
        simp at h), fun _ _ => rfl, rfl, rfl⟩
  unfold sp_kA
  split <;> exact key _ _
section ACA
variable {h g : cz_H} {x c m : Nat} {X : cx_X} {s : Nat → Int32} {nm : Nat → Int64} {M : px_M}
/-- the component does an act -/
theorem cm_does {w k n e : Nat} (hb : h.1.1 ≤ x) (H : cx_st h x X 0 c s nm) (U : ux x c X M s) (a : sp_actIn s w k n) (ha : pc_Act (cx_no h x) w k n e) : ∃ Y : cx_X, cx_ac X Y ∧ (((sp_does w k n s).1 = 0 ∧ fn_X1_does (some x) (some e) (cx_set h x X) = some (.inl (some (cz_i 0)), cx_set h x Y) ∧ cx_st h x Y 0 c (sp_does w k n s).2 nm ∧ ux x c Y (sp_kA M s) (sp_does w k n s).2) ∨ (¬ (sp_does w k n s).1 = 0 ∧ fn_X1_does (some x) (some e) (cx_set h x X) = some (.inl (some (cz_i ((sp_does w k n s).1 - (sp_does w k n s).1 / 10 * 10))), cx_set h x Y) ∧ cx_st h x Y 0 c s nm ∧ ux x c Y M s)) := by
  obtain ⟨e1, H1⟩ := cm_trial hb H
  obtain ⟨R, r1, r2⟩ := n1_does hb H1 a ha
  have H2 : cx_st h x (cx_G (cx_G X 1 (rx_as (X.2.2.2.2 1) (X.2.2.2.2 0))) 1 R) 0 c s nm := (H.other (by decide)).other (by decide)
  have U2 : ux x c (cx_G (cx_G X 1 (rx_as (X.2.2.2.2 1) (X.2.2.2.2 0))) 1 R) M s := (U.now (by omega)).now (by omega)
  have C2 : cx_ac X (cx_G (cx_G X 1 (rx_as (X.2.2.2.2 1) (X.2.2.2.2 0))) 1 R) := (cx_ac.G (by omega)).tr (cx_ac.G (by omega))
  by_cases e0 : (sp_does w k n s).1 = 0
  · obtain ⟨Y, y1, y2, y3, y4, y5, y6⟩ := cm_snap hb H2 U2
    have s1 : cx_st h x Y 1 c (sp_does w k n s).2 nm := ⟨r2.1, by rw [y6 1 (by omega)]; exact r2.2.1, r2.2.2.1, by rw [y6 1 (by omega)]; exact r2.2.2.2⟩
    have as0 := cx_as (h := h) (x := x) (X := Y) (i := 0) (j := 1) hb (by omega) (by omega) (by omega)
    have as0 : fn_X3_as (some (x + 8)) (some (x + 16)) (cx_set h x Y) = _ := as0
    refine ⟨cx_G Y 0 (rx_as (Y.2.2.2.2 0) (Y.2.2.2.2 1)), ?_, Or.inl ⟨e0, ?_, s1.as, (y2.mid (sp_does_mid H.1 a)).now (by omega)⟩⟩
    · exact (C2.tr ⟨fun j h1 _ _ => y3 j h1, y4, y5, fun i hi => y6 i (by omega)⟩).tr (cx_ac.G (by omega))
    · rw [fn_X1_does, cg_trial, cg_now, n1_rc, e1, px_cR, r1, px_cI, if_pos e0, cx_rc, y1, px_cV, cg_now, cg_trial, n0_rc, as0, px_cR]
  · refine ⟨_, C2, Or.inr ⟨e0, ?_, H2, U2⟩⟩
    rw [fn_X1_does, cg_trial, cg_now, n1_rc, e1, px_cR, r1, px_cI, if_neg e0, if_neg (by decide)]
/-- .. made for it -/
theorem cm_newact {w k n ci : Nat} {V : Nat → cz_v} {z : Nat} (hx : x + 126 ≤ h.2.1) (hf : h.2.2.2 h.2.1 = none) (hV : pc_Act (fun q => if q = h.2.1 then some (.inl (ci, V)) else none) w k n h.2.1) : pc_Act (cx_no (cz_new h (.inl (ci, V)) z) x) w k n h.2.1 ∧ hg x h (cz_new h (.inl (ci, V)) z) := by
  refine ⟨hV.mono fun a v e => ?_, hg_new hf⟩
  split at e
  · rename_i q
    subst q
    unfold cx_no
    rw [if_neg (by omega), cz_new_at]
    exact e
  · cases e
theorem cm_mk {ci z : Nat} {kk : Option Nat → cz_H → cz_Z} (hx : x + 109 ≤ h.2.1) (h1 : h.2.1 + 1 ≤ h.1.2.1) (h2 : h.2.2.1 + z ≤ h.1.2.2.1) : cz_newo (cx_set h x X) ci z kk = kk (some h.2.1) (cx_set (cz_new h (.inl (ci, cz_df ci)) z) x X) := by
  unfold cz_newo
  rw [pc_mk (h := cx_set h x X) h1 h2, cx_new h x X hx]
  rfl
theorem cm_putn {ci z j : Nat} {V : Nat → cz_v} {js : List (Nat × Nat)} {v : cz_v} {kk : cz_H → cz_Z} (hb : h.1.1 ≤ x) (hx : x + 109 ≤ h.2.1) (hl : cz_lk js ci = some j) : cz_put (cx_set (cz_new h (.inl (ci, V)) z) x X) (some h.2.1) js v kk = kk (cx_set (cz_new h (.inl (ci, fun q => if q = j then v else V q)) z) x X) := by
  have e : (cx_set (cz_new h (.inl (ci, V)) z) x X).2.2.2 h.2.1 = some (.inl (ci, V)) := by
    rw [cx_out _ _ _ (by omega)]
    exact cz_new_at
  rw [pc_put e hl (show h.1.1 ≤ h.2.1 by omega), cx_sets hx, cz_new_set]
theorem cm_X14_init {ci z : Nat} {V : Nat → cz_v} {a b : Int32} (hb : h.1.1 ≤ x) (hx : x + 109 ≤ h.2.1) (hl : ci = 12 ∨ ci = 13 ∨ ci = 14) : fn_X14_init (some h.2.1) a b (cx_set (cz_new h (.inl (ci, V)) z) x X) = some (.inl none, cx_set (cz_new h (.inl (ci, fun q => if q = 0 then cz_i b else if q = 1 then cz_i a else V q)) z) x X) := by
  have l1 : cz_lk [(12, 1), (13, 1), (14, 1), (15, 0)] ci = some 1 := by rcases hl with e | e | e <;> subst e <;> rfl
  have l0 : cz_lk [(12, 0), (13, 0), (14, 0)] ci = some 0 := by rcases hl with e | e | e <;> subst e <;> rfl
  rw [fn_X14_init, fn_X13_init, fn_X12_init]
  rw [pc_nn, pc_nn, pc_nn, px_cV, cm_putn hb hx l1, px_cV, cm_putn hb hx l0]
theorem sp_12 {x : Int32} (h : x = 1 ∨ x = 2) : ¬ x ≤ 0 ∧ ¬ x = 0 ∧ x - x / 10 * 10 = x ∧ 10 + x - (10 + x) / 10 * 10 = x ∧ 20 + x - (20 + x) / 10 * 10 = x ∧ ¬ 10 + x = 0 ∧ ¬ 20 + x = 0 := by
  rcases h with e | e <;> subst e <;> decide
theorem sp_whyLay_is {c : Nat} {v : Int32} (h : ¬ sp_whyLay s c v = 0) : sp_whyLay s c v = 1 ∨ sp_whyLay s c v = 2 := by
  unfold sp_whyLay at h ⊢
  by_cases a : 10 ≤ s (65 + c)
  · rw [if_pos a]; exact Or.inl rfl
  · rw [if_neg a] at h ⊢
    by_cases b : sp_coatOn s v < 0
    · rw [if_pos b] at h; exact absurd rfl h
    · rw [if_neg b]; exact Or.inr rfl
theorem sp_whyWear_is {c : Nat} {v : Int32} (h : ¬ sp_whyWear s v c = 0) : sp_whyWear s v c = 1 ∨ sp_whyWear s v c = 2 := by
  unfold sp_whyWear at h ⊢
  by_cases a : s (65 + c) < 10
  · rw [if_pos a]; exact Or.inl rfl
  · rw [if_neg a] at h ⊢
    by_cases b : s (65 + c) = 30
    · rw [if_pos b]; exact Or.inl rfl
    · rw [if_neg b] at h ⊢
      by_cases d : s (73 + c) = v
      · rw [if_pos d] at h; exact absurd rfl h
      · rw [if_neg d] at h ⊢
        by_cases e : s (22 + c) = v
        · rw [if_pos e] at h; exact absurd rfl h
        · rw [if_neg e]; exact Or.inr rfl
theorem sp_whyLend_is {c : Nat} {v : Int32} (h : ¬ sp_whyLend s c v = 0) : sp_whyLend s c v = 1 ∨ sp_whyLend s c v = 2 := by
  unfold sp_whyLend at h ⊢
  by_cases a : s (65 + c) = 30
  · rw [if_pos a]; exact Or.inl rfl
  · rw [if_neg a] at h ⊢
    by_cases d : s (73 + c) = v
    · rw [if_pos d]; exact Or.inr rfl
    · rw [if_neg d] at h; exact absurd rfl h
/-- how an act ends, of both -/
def oa (h : cz_H) (x c : Nat) (X : cx_X) (s : Nat → Int32) (nm : Nat → Int64) (M : px_M) (z : Nat) (fc fr : Option Nat → cz_H → cz_Z) : Prop := ∃ (a : Int32) (k : cz_H) (Y : cx_X) (N : px_M) (t : Nat → Int32), fc (some x) (cx_set h x X) = some (.inl (some (cz_i a)), cx_set k x Y) ∧ hg x h k ∧ k.2.1 ≤ h.2.1 + 1 ∧ k.2.2.1 ≤ h.2.2.1 + z ∧ cx_ac X Y ∧ px_ac M N ∧ sp_mid s t ∧ cx_st k x Y 0 c t nm ∧ ux x c Y N t ∧ ∀ (g : cz_H) (m : Nat), g.1.1 ≤ m → fr (some m) (px_set g m (px_S M s)) = some (.inl (some (cz_i a)), px_set g m (px_S N t))
theorem ux.kA (U : ux x c X M s) : M.1 23 = Int32.ofNat (sp_u M) ∧ sp_u M ≤ 8 := by
  obtain ⟨u, p, h1, h2, h3, -⟩ := U
  have hu : sp_u M = u := by unfold sp_u; rw [h3, Int32.toNatClampNeg_ofNat_of_lt (show u < 2 ^ 31 by omega)]
  exact ⟨by rw [hu]; exact h3, by omega⟩
theorem sp_kA0 : sp_kA (px_I M 0 0) s = px_I (sp_kA M s) 0 0 := by
  have hu : sp_u (px_I M 0 0) = sp_u M := by unfold sp_u; rw [px_I1n (by decide)]
  unfold sp_kA
  rw [hu]
  have e : (px_I M 0 0).2.2.1 21 = M.2.2.1 21 := rfl
  rw [e]
  split
  · rw [px_IC (show 0 ≠ 23 by decide)]; rfl
  · rw [px_IC (show 0 ≠ 23 by decide)]; rfl
theorem oa_no {z : Nat} {fc fr : Option Nat → cz_H → cz_Z} (H : cx_st h x X 0 c s nm) (U : ux x c X M s) (a : Int32) (e1 : fc (some x) (cx_set h x X) = some (.inl (some (cz_i a)), cx_set h x X)) (e2 : ∀ (g : cz_H) (m : Nat), g.1.1 ≤ m → fr (some m) (px_set g m (px_S M s)) = some (.inl (some (cz_i a)), px_set g m (px_S (px_I M 0 0) s))) : oa h x c X s nm M z fc fr := ⟨a, h, X, px_I M 0 0, s, e1, hg.rf, Nat.le_succ _, Nat.le_add_right _ _, cx_ac.rf, (px_eq.I (by decide)).ac, sp_mid.rf, H, U.eq cx_eq.rf (px_eq.I (by decide)), e2⟩
/-- an act with its object -/
theorem oa_act {w k n ci z : Nat} {V : Nat → cz_v} {fc fr : Option Nat → cz_H → cz_Z} (hb : h.1.1 ≤ x) (hx : x + 126 ≤ h.2.1) (hf : h.2.2.2 h.2.1 = none) (H : cx_st h x X 0 c s nm) (U : ux x c X M s) (ai : sp_actIn s w k n) (hV : pc_Act (fun q => if q = h.2.1 then some (.inl (ci, V)) else none) w k n h.2.1)
    (e1 : fc (some x) (cx_set h x X) = cz_cI (fn_X1_does (some x) (some h.2.1) (cx_set (cz_new h (.inl (ci, V)) z) x X)) (fun x29 h28 => some (.inl (some (cz_i x29)), h28)))
    (e2 : ∀ (g : cz_H) (m : Nat), g.1.1 ≤ m → ((sp_does w k n s).1 = 0 → fr (some m) (px_set g m (px_S M s)) = some (.inl (some (cz_i 0)), px_set g m (px_S (px_I (sp_kA M s) 0 0) (sp_does w k n s).2))) ∧ (¬ (sp_does w k n s).1 = 0 → fr (some m) (px_set g m (px_S M s)) = some (.inl (some (cz_i ((sp_does w k n s).1 - (sp_does w k n s).1 / 10 * 10))), px_set g m (px_S (px_I M 0 0) s)))) : oa h x c X s nm M z fc fr := by
  obtain ⟨pa, G⟩ := cm_newact (z := z) hx hf hV
  obtain ⟨Y, C, q⟩ := cm_does (h := cz_new h (.inl (ci, V)) z) hb (H.grow G) U ai pa
  rcases q with ⟨q0, q1, q2, q3⟩ | ⟨q0, q1, q2, q3⟩
  · exact ⟨0, _, Y, px_I (sp_kA M s) 0 0, (sp_does w k n s).2, by rw [e1, q1, px_cI], G, Nat.le_refl _, Nat.le_refl _, C, px_ac.kA.tr (px_eq.I (by decide)).ac, sp_does_mid H.1 ai, q2, q3.eq cx_eq.rf (px_eq.I (by decide)), fun g m hb => (e2 g m hb).1 q0⟩
  · exact ⟨_, _, Y, px_I M 0 0, s, by rw [e1, q1, px_cI], G, Nat.le_refl _, Nat.le_refl _, C, (px_eq.I (by decide)).ac, sp_mid.rf, q2, q3.eq cx_eq.rf (px_eq.I (by decide)), fun g m hb => (e2 g m hb).2 q0⟩
end ACA
