/-! THE PLAIN LAW, 29: acts on a Reign -/
set_option maxRecDepth 100000
/-- a Reign at r, of the row s, with all that always holds; its Capital lies elsewhere -/
def rx_st (h : cz_H) (r : Nat) (R : rx_R) (c : Nat) (s : Nat → Int32) (nm : Nat → Int64) : Prop := sp_full s ∧ R.1 = some c ∧ pc_Cap (rx_no h r) c s nm ∧ rx_ok R s
section RXP
variable {h : cz_H} {r c : Nat} {R R2 : rx_R} {s t : Nat → Int32} {nm : Nat → Int64}
theorem rx_st.on (H : rx_st h r R c s nm) : rx_on h r R c s nm := ⟨H.1.1.1, H.1.1.2.1, H.2.1, H.2.2.1, H.2.2.2⟩
theorem rx_st.is (H : rx_st h r R c s nm) : rx_is h r R c s nm := H.on.is
theorem rx_st.next (H : rx_st h r R c s nm) (F : sp_full t) (hs : sp_same s t) (hR : R2.1 = R.1) (hok : rx_ok R2 t) : rx_st h r R2 c t nm := ⟨F, hR.trans H.2.1, H.2.2.1.same H.1.1.1.1 hs, hok⟩
theorem rm_passSt (hb : h.1.1 ≤ r) (H : rx_st h r R c s nm) (hd : s 62 ≠ 400) : ∃ R2 : rx_R, fn_X3_pass (some r) (rx_set h r R) = some (.inl (some (cz_i 1)), rx_set h r R2) ∧ R2.2.1 13 = R.2.1 13 ∧ rx_st h r R2 c (sp_day s) nm := by
  obtain ⟨R2, a, b, d⟩ := rm_pass hb H.1.1 H.2.1 H.2.2.1 H.2.2.2 hd
  exact ⟨R2, a, b.2, H.next (sp_full_day H.1 hd) (sp_day_oq H.1.1.1).2 (b.1.trans H.2.1.symm) d⟩
theorem rm_passAll {N : Nat} (hb : h.1.1 ≤ r) (hN : N ≤ 400) (H : rx_st h r R c s nm) : ∃ R2 : rx_R, fn_X3_passAll (some r) (Int32.ofNat N) (rx_set h r R) = some (.inl (some (cz_i (Int32.ofNat (sp_goes N 0 s).1))), rx_set h r R2) ∧ rx_st h r R2 c (sp_goes N 0 s).2 nm := by
  obtain ⟨R2, a, b, d⟩ := rm_passAll_2 (k0 := fun (e10 : Int32) (h11 : cz_H) => some (.inl (some (cz_i e10)), h11)) hb hN N 1000 0 R s H.1.1 H.1.2.1 H.2.1 H.2.2.1 H.2.2.2 (Nat.zero_add _) (by omega)
  exact ⟨R2, by rw [fn_X3_passAll]; exact a, H.next (sp_full_goes _ _ _ H.1) (sp_goes_oq _ _ _ H.1.1.1).2 (b.trans H.2.1.symm) d⟩
theorem rx_lend {k : Nat} {v : Int32} (h8 : sp_n s 2 ≤ 8) (h6 : sp_n s 1 ≤ 6) (hR : rx_ok R s) (hk : k < sp_n s 2) : rx_ok (rx_A R 8 k v) (upd s (73 + k) v) := by
  obtain ⟨b1, b2, b3, b4, b5, b6, b7, b8⟩ := hR
  unfold rx_ok
  rw [sp_n_upd (by omega), sp_n_upd (by omega), sp_n_upd (by omega), rx_A2, px_une (by omega), px_une (by omega), px_une (by omega), px_une (by omega)]
  refine ⟨b1, b2, b3, ?_, b5, fun j hj => ?_, fun j hj => ?_, fun j hj => ?_⟩
  · rw [b4]
    exact (sp_coatsAt_congr (sp_n_upd (by omega)) fun j hj => by rw [px_une (by omega)]).symm
  · obtain ⟨c1, c2, c3, c4⟩ := b6 j hj
    rw [rx_An (show 6 ≠ 8 by decide), rx_An (show 7 ≠ 8 by decide), rx_Ae, rx_An (show 9 ≠ 8 by decide), px_une (show 65 + j ≠ 73 + k by omega), px_une (show 81 + j ≠ 73 + k by omega), px_une (show 89 + j ≠ 73 + k by omega)]
    refine ⟨c1, c2, ?_, c4⟩
    by_cases e : j = k
    · subst e; rw [px_ueq, px_ueq]
    · rw [px_une e, px_une (by omega)]; exact c3
  · rw [rx_An (by decide), px_une (by omega)]; exact b7 j hj
  · rw [rx_An (by decide), rx_An (by decide), px_une (by omega), px_une (by omega)]; exact b8 j hj
theorem rm_laySt {k y : Nat} (hb : h.1.1 ≤ r) (H : rx_st h r R c s nm) (hk : k < sp_n s 2) (hy : y < 8) (hw : s (65 + k) < 10) : ∃ R2 : rx_R, fn_X3_lay (some r) (Int32.ofNat k) (Int32.ofNat y) (rx_set h r R) = some (.inl none, rx_set h r R2) ∧ R2.2.1 13 = R.2.1 13 ∧ rx_st h r R2 c (sp_lays s k (Int32.ofNat y)) nm := by
  have h8 := H.1.1.1.1.2.2.1.2
  refine ⟨_, rm_lay hb (by omega), by rw [rx_A2, rx_A2], H.next (sp_full_lays H.1 hk hy (sp_lt10 hw).1) (fun q hq => by unfold sp_lays; rw [px_une (by omega), px_une (by omega)]) (by rw [rx_A1, rx_A1]) (rx_lay H.1.1.1.1 H.2.2.2 hk hy (sp_lt10 hw).2)⟩
theorem rm_keepSt {k : Nat} (hb : h.1.1 ≤ r) (H : rx_st h r R c s nm) (hk : k < sp_n s 2) (hw : s (65 + k) < 10) : ∃ R2 : rx_R, fn_X3_keep (some r) (Int32.ofNat k) (rx_set h r R) = some (.inl none, rx_set h r R2) ∧ R2.2.1 13 = R.2.1 13 ∧ rx_st h r R2 c (sp_keeps s k) nm := by
  have h8 := H.1.1.1.1.2.2.1.2
  obtain ⟨ok, Q, hQ⟩ := H.1.1.1
  have hl := hQ.len7 ok hk (sp_lt10 hw).1
  refine ⟨_, rm_keep hb (by omega) (by rw [H.2.2.2.2.2.2.2.1, hQ.2.2.1]) hl, by rw [rx_In (by decide), rx_A2, rx_A2], H.next (sp_full_keeps H.1 hk (sp_lt10 hw).1) sp_keeps_same (by rw [rx_I1, rx_A1, rx_A1]) (rx_keep ok hQ H.2.2.2 hk (sp_lt10 hw).2 (sp_lt10 hw).1)⟩
theorem rm_wearSt {k y : Nat} (hb : h.1.1 ≤ r) (H : rx_st h r R c s nm) (hk : k < sp_n s 2) (h30 : s (65 + k) ≠ 30) (hy : y < 6) : ∃ R2 : rx_R, fn_X3_wear (some r) (Int32.ofNat k) (Int32.ofNat y) (rx_set h r R) = some (.inl none, rx_set h r R2) ∧ R2.2.1 13 = R.2.1 13 ∧ rx_st h r R2 c (sp_wears s (Int32.ofNat y) k) nm := by
  obtain ⟨ok, Q, hQ⟩ := H.1.1.1
  obtain ⟨R2, a, b, d⟩ := rm_wear hb ok hQ H.2.2.2 hk h30 hy
  exact ⟨R2, a, b.2, H.next (sp_full_wears H.1 hk hy).1 (sp_full_wears H.1 hk hy).2 b.1 d⟩
theorem pc_by {h : cz_H} {a ci : Nat} {V : Nat → cz_v} {f : Nat → cz_Z} (hc : h.2.2.2 a = some (.inl (ci, V))) : cz_by h (some a) f = f ci := by
  unfold cz_by
  dsimp only
  rw [hc]
/-- the act at e -/
def pc_Act (F : Nat → Option cz_C) (w k n e : Nat) : Prop := ∃ V : Nat → cz_v, (w = 0 ∧ F e = some (.inl (12, V)) ∧ V 1 = cz_i (Int32.ofNat k) ∧ V 0 = cz_i (Int32.ofNat n)) ∨ (w = 1 ∧ F e = some (.inl (13, V)) ∧ V 1 = cz_i (Int32.ofNat n) ∧ V 0 = cz_i (Int32.ofNat k)) ∨ (w = 2 ∧ F e = some (.inl (14, V)) ∧ V 1 = cz_i (Int32.ofNat k) ∧ V 0 = cz_i (Int32.ofNat n)) ∨ (w = 3 ∧ F e = some (.inl (15, V)) ∧ V 0 = cz_i (Int32.ofNat k)) ∨ (w = 4 ∧ F e = some (.inl (17, V)) ∧ V 0 = cz_i (Int32.ofNat k))
theorem rm_told {x y : Int32} {h : cz_H} : fn_X12_told x y h = some (.inl (some (cz_i (if x = 0 then 0 else y + x))), h) := by
  rw [fn_X12_told]
  split <;> rfl
theorem rm_does {w k n e : Nat} (hb : h.1.1 ≤ r) (H : rx_st h r R c s nm) (a : sp_actIn s w k n) (ha : pc_Act (rx_no h r) w k n e) : ∃ R2 : rx_R, fn_disp_does (some e) (some r) (rx_set h r R) = some (.inl (some (cz_i (sp_does w k n s).1)), rx_set h r R2) ∧ rx_st h r R2 c (sp_does w k n s).2 nm := by
  have h0 := H.1.1.1.1.1.2
  have h1 := H.1.1.1.1.2.1.2
  have h8 := H.1.1.1.1.2.2.1.2
  obtain ⟨V, ha⟩ := ha
  have fi : ∀ {ci : Nat}, rx_no h r e = some (.inl (ci, V)) → ∀ R2 : rx_R, (rx_set h r R2).2.2.2 e = some (.inl (ci, V)) := fun q R2 => rx_no_in _ _ q
  unfold sp_does
  rcases a with ⟨rfl, a1, a2⟩ | ⟨rfl, a1, a2⟩ | ⟨rfl, a1, a2⟩ | ⟨rfl, a1⟩ | ⟨rfl, a1, a2⟩
  · obtain ⟨-, q, v1, v0⟩ : _ := ha.resolve_right (by simp)
    rw [if_pos rfl]
    dsimp only
    rw [fn_disp_does, pc_by (fi q R), if_pos rfl, fn_X15_does, pc_getI (fi q R) v1 rfl, pc_getI (fi q R) v0 rfl, rx_rc, rm_whyLay H.is a1, px_cI]
    by_cases e0 : sp_whyLay s k (Int32.ofNat n) = 0
    · obtain ⟨R2, r1, -, r3⟩ := rm_laySt hb H a1 (show n < 8 by omega) (sp_whyLay0 e0)
      exact ⟨R2, by rw [if_pos e0, pc_getI (fi q R) v1 rfl, pc_getI (fi q R) v0 rfl, rx_rc, r1, px_cV], by rw [if_pos e0]; exact r3⟩
    · exact ⟨R, by rw [if_neg e0], by rw [if_neg e0]; exact H⟩
  · obtain ⟨-, q, v1, v0⟩ : _ := (ha.resolve_left (by simp)).resolve_right (by simp)
    rw [if_neg (by decide), if_pos rfl, fn_disp_does, pc_by (fi q R), if_neg (by decide), if_pos rfl, fn_X18_does, pc_getI (fi q R) v1 rfl, pc_getI (fi q R) v0 rfl, rx_rc, rm_whyWear H.is a2, px_cI]
    by_cases e0 : sp_whyWear s (Int32.ofNat k) n = 0
    · obtain ⟨R2, r1, -, r3⟩ := rm_wearSt hb H a2 (sp_whyWear0 e0).2 (show k < 6 by omega)
      exact ⟨R2, by rw [if_pos e0, if_pos e0, pc_getI (fi q R) v1 rfl, pc_getI (fi q R) v0 rfl, rx_rc, r1, px_cV, rm_told, px_cI, if_pos e0], by rw [if_pos e0]; exact r3⟩
    · exact ⟨R, by rw [if_neg e0, if_neg e0, rm_told, px_cI, if_neg e0], by rw [if_neg e0]; exact H⟩
  · obtain ⟨-, q, v1, v0⟩ : _ := ((ha.resolve_left (by simp)).resolve_left (by simp)).resolve_right (by simp)
    rw [if_neg (by decide), if_neg (by decide), if_pos rfl, fn_disp_does, pc_by (fi q R), if_neg (by decide), if_neg (by decide), if_pos rfl, fn_X16_does, pc_getI (fi q R) v1 rfl, pc_getI (fi q R) v0 rfl, rx_rc, rm_whyLend H.is a1, px_cI]
    by_cases e0 : sp_whyLend s k (Int32.ofNat n) = 0
    · refine ⟨_, by rw [if_pos e0, if_pos e0, rr_user, pc_getI (fi q R) v1 rfl, pc_getI (fi q R) v0 rfl, rs_user (show k < 8 by omega) hb, rm_told, px_cI, if_pos e0], ?_⟩
      rw [if_pos e0]
      exact H.next (sp_full_lend H.1 a1) (sp_same_upd (by omega)) rx_A1 (rx_lend h8 h1 H.2.2.2 a1)
    · exact ⟨R, by rw [if_neg e0, if_neg e0, rm_told, px_cI, if_neg e0], by rw [if_neg e0]; exact H⟩
  · obtain ⟨-, q, v0⟩ : _ := (((ha.resolve_left (by simp)).resolve_left (by simp)).resolve_left (by simp)).resolve_right (by simp)
    rw [if_neg (by decide), if_neg (by decide), if_neg (by decide), if_pos rfl, fn_disp_does, pc_by (fi q R), if_neg (by decide), if_neg (by decide), if_neg (by decide), if_pos rfl, fn_X17_does, pc_getI (fi q R) v0 rfl, rx_rc, rm_whyKeep H.is a1, px_cI]
    by_cases e0 : s (65 + k) < 10
    · obtain ⟨R2, r1, -, r3⟩ := rm_keepSt hb H a1 e0
      exact ⟨R2, by rw [if_pos e0, if_pos e0, if_pos rfl, pc_getI (fi q R) v0 rfl, rx_rc, r1, px_cV, rm_told, px_cI, if_pos rfl], by rw [if_pos e0]; exact r3⟩
    · exact ⟨R, by rw [if_neg e0, if_neg e0, if_neg (by decide), rm_told, px_cI, if_neg (by decide)]; rfl, by rw [if_neg e0]; exact H⟩
  · obtain ⟨-, q, v0⟩ : _ := (((ha.resolve_left (by simp)).resolve_left (by simp)).resolve_left (by simp)).resolve_left (by simp)
    rw [if_neg (by decide), if_neg (by decide), if_neg (by decide), if_neg (by decide), fn_disp_does, pc_by (fi q R), if_neg (by decide), if_neg (by decide), if_neg (by decide), if_neg (by decide), if_pos rfl, fn_X20_does, rg_day, pc_getI (fi q R) v0 rfl, H.2.2.2.1]
    by_cases e0 : s 62 + Int32.ofNat k ≤ 400
    · obtain ⟨R2, r1, r3⟩ := rm_passAll hb (show k ≤ 400 by omega) H
      exact ⟨R2, by rw [if_pos e0, if_pos e0, pc_getI (fi q R) v0 rfl, rx_rc, r1, px_cI], by rw [if_pos e0]; exact r3⟩
    · exact ⟨R, by rw [if_neg e0, if_neg e0], by rw [if_neg e0]; exact H⟩
end RXP
