/-! methods of the class, 1 (printed by wip/D-98934w/gen) -/
set_option maxRecDepth 100000
/-! HeldCoats$Reign.noon()V -/
def dkwX3_noon_2 : List UInt8 := [177]
abbrev dktX3_noon_2 : List UInt8 := dkwX3_noon_2 ++ []
def dkwX3_noon_1 : List UInt8 := [180, 0, 41, 4, 96, 181, 0, 41, 42, 180, 0, 44, 2, 160, 0, 11, 42, 42, 180, 0, 37, 181, 0, 44]
abbrev dktX3_noon_1 : List UInt8 := dkwX3_noon_1 ++ dktX3_noon_2
def dkwX3_noon_0 : List UInt8 := [42, 4, 182, 0, 148, 60, 27, 2, 159, 0, 14, 42, 180, 0, 30, 27, 92, 46, 4, 96, 79, 177, 42, 89]
abbrev dktX3_noon_0 : List UInt8 := dkwX3_noon_0 ++ dktX3_noon_1
theorem dksX3_noon_0 : cX3_noon.data.toList.drop 0 = dktX3_noon_0 := by decide +kernel
theorem dksX3_noon_1 : cX3_noon.data.toList.drop 24 = dktX3_noon_1 := dk_seg dksX3_noon_0 24 rfl rfl
theorem dksX3_noon_2 : cX3_noon.data.toList.drop 48 = dktX3_noon_2 := dk_seg dksX3_noon_1 24 rfl rfl
theorem dX3_noon_0 : decode cX3_noon 0 = .ok (.aload_n 0, 1) := dk_42 (dk_at dksX3_noon_0 0 rfl rfl)
theorem dX3_noon_1 : decode cX3_noon 1 = .ok (.iconst 1, 1) := dk_4 (dk_at dksX3_noon_0 1 rfl rfl)
theorem dX3_noon_2 : decode cX3_noon 2 = .ok (.invokevirtual 148, 3) := dk_182 0 148 (dk_at dksX3_noon_0 2 rfl rfl)
theorem dX3_noon_5 : decode cX3_noon 5 = .ok (.istore_n 1, 1) := dk_60 (dk_at dksX3_noon_0 5 rfl rfl)
theorem dX3_noon_6 : decode cX3_noon 6 = .ok (.iload_n 1, 1) := dk_27 (dk_at dksX3_noon_0 6 rfl rfl)
theorem dX3_noon_7 : decode cX3_noon 7 = .ok (.iconst (-1), 1) := dk_2 (dk_at dksX3_noon_0 7 rfl rfl)
theorem dX3_noon_8 : decode cX3_noon 8 = .ok (.if_icmp .eq 14, 3) := dk_159 0 14 (dk_at dksX3_noon_0 8 rfl rfl)
theorem dX3_noon_11 : decode cX3_noon 11 = .ok (.aload_n 0, 1) := dk_42 (dk_at dksX3_noon_0 11 rfl rfl)
theorem dX3_noon_12 : decode cX3_noon 12 = .ok (.getfield 30, 3) := dk_180 0 30 (dk_at dksX3_noon_0 12 rfl rfl)
theorem dX3_noon_15 : decode cX3_noon 15 = .ok (.iload_n 1, 1) := dk_27 (dk_at dksX3_noon_0 15 rfl rfl)
theorem dX3_noon_16 : decode cX3_noon 16 = .ok (.dup2, 1) := dk_92 (dk_at dksX3_noon_0 16 rfl rfl)
theorem dX3_noon_17 : decode cX3_noon 17 = .ok (.iaload, 1) := dk_46 (dk_at dksX3_noon_0 17 rfl rfl)
theorem dX3_noon_18 : decode cX3_noon 18 = .ok (.iconst 1, 1) := dk_4 (dk_at dksX3_noon_0 18 rfl rfl)
theorem dX3_noon_19 : decode cX3_noon 19 = .ok (.iadd, 1) := dk_96 (dk_at dksX3_noon_0 19 rfl rfl)
theorem dX3_noon_20 : decode cX3_noon 20 = .ok (.iastore, 1) := dk_79 (dk_at dksX3_noon_0 20 rfl rfl)
theorem dX3_noon_21 : decode cX3_noon 21 = .ok (.return_, 1) := dk_177 (dk_at dksX3_noon_0 21 rfl rfl)
theorem dX3_noon_22 : decode cX3_noon 22 = .ok (.aload_n 0, 1) := dk_42 (dk_at dksX3_noon_0 22 rfl rfl)
theorem dX3_noon_23 : decode cX3_noon 23 = .ok (.dup, 1) := dk_89 (dk_at dksX3_noon_0 23 rfl rfl)
theorem dX3_noon_24 : decode cX3_noon 24 = .ok (.getfield 41, 3) := dk_180 0 41 (dk_at dksX3_noon_1 0 rfl rfl)
theorem dX3_noon_27 : decode cX3_noon 27 = .ok (.iconst 1, 1) := dk_4 (dk_at dksX3_noon_1 3 rfl rfl)
theorem dX3_noon_28 : decode cX3_noon 28 = .ok (.iadd, 1) := dk_96 (dk_at dksX3_noon_1 4 rfl rfl)
theorem dX3_noon_29 : decode cX3_noon 29 = .ok (.putfield 41, 3) := dk_181 0 41 (dk_at dksX3_noon_1 5 rfl rfl)
theorem dX3_noon_32 : decode cX3_noon 32 = .ok (.aload_n 0, 1) := dk_42 (dk_at dksX3_noon_1 8 rfl rfl)
theorem dX3_noon_33 : decode cX3_noon 33 = .ok (.getfield 44, 3) := dk_180 0 44 (dk_at dksX3_noon_1 9 rfl rfl)
theorem dX3_noon_36 : decode cX3_noon 36 = .ok (.iconst (-1), 1) := dk_2 (dk_at dksX3_noon_1 12 rfl rfl)
theorem dX3_noon_37 : decode cX3_noon 37 = .ok (.if_icmp .ne 11, 3) := dk_160 0 11 (dk_at dksX3_noon_1 13 rfl rfl)
theorem dX3_noon_40 : decode cX3_noon 40 = .ok (.aload_n 0, 1) := dk_42 (dk_at dksX3_noon_1 16 rfl rfl)
theorem dX3_noon_41 : decode cX3_noon 41 = .ok (.aload_n 0, 1) := dk_42 (dk_at dksX3_noon_1 17 rfl rfl)
theorem dX3_noon_42 : decode cX3_noon 42 = .ok (.getfield 37, 3) := dk_180 0 37 (dk_at dksX3_noon_1 18 rfl rfl)
theorem dX3_noon_45 : decode cX3_noon 45 = .ok (.putfield 44, 3) := dk_181 0 44 (dk_at dksX3_noon_1 21 rfl rfl)
theorem dX3_noon_48 : decode cX3_noon 48 = .ok (.return_, 1) := dk_177 (dk_at dksX3_noon_2 0 rfl rfl)
theorem se_HeldCoats_Reign_ruler__Z_I_HeldCoats_Reign : ∀ c ∈ ([3] : List Nat), ∃ q : vw_C, cz_cl[c]? = some q ∧ Cond.selects q.1 (⟨"HeldCoats$Reign", "ruler", "(Z)I"⟩ : MethodName) (⟨"HeldCoats$Reign", "ruler", "(Z)I"⟩ : MethodName) ∈ lw_all := List.forall_mem_cons.mpr ⟨⟨_, cz_cl3, q1126⟩, fun _ h => absurd h List.not_mem_nil⟩
theorem md_X3_ruler : cz_md yX3_ruler 7 (ws_ yX3_ruler cX3_ruler 7 ((Option.some Jvm.ClassFile.FieldType.int))) 1 := ⟨cz_ws_code q1127, q118, ⟨by decide, by decide, by decide +kernel⟩, by decide⟩
set_option maxHeartbeats 4000000 in
set_option maxRecDepth 100000 in
noncomputable def fn_X3_noon (l0 : Option Nat) (h : cz_H) : cz_Z := cz_rc h l0 [3] (cz_cI (fn_X3_ruler l0 1 h) (fun x8 h7 => (if x8 = (-1) then cz_getI h7 l0 [(3, 2)] (fun x9 => cz_put h7 l0 [(3, 2)] (cz_i (x9 + 1)) (fun h10 => cz_getI h10 l0 [(3, 3)] (fun x11 => (if x11 = (-1) then cz_getI h10 l0 [(3, 1)] (fun x12 => cz_put h10 l0 [(3, 3)] (cz_i x12) (fun h13 => some (.inl none, h13))) else some (.inl none, h10))))) else cz_getR h7 l0 [(3, 12)] (fun r14 => cz_iald h7 r14 x8 (fun x15 => cz_iast h7 r14 x8 (x15 + 1) (fun h16 => some (.inl none, h16)))))))
set_option maxHeartbeats 4000000 in
set_option maxRecDepth 100000 in
theorem wk_X3_noon {K : cz_K} {D : cz_D} {h0 : cz_H} {oh : cz_O × cz_H} {l0 : Option Nat} {h : cz_H} (S : cz_S K D h0 cX3_noon 2 "HeldCoats$Reign" ((Option.none : Option Jvm.ClassFile.FieldType)) "noon" ([])) : cz_T K D 8 h0 oh 2 (fn_X3_noon l0 h) h 0 [(0, cz_r l0)] [] := by
  unfold fn_X3_noon
  refine ct_aload_n (k := 0) S dX3_noon_0 rfl rfl ?_
  refine ct_iconst (v := 1) S dX3_noon_1 kI_1 ?_
  refine ct_rc (fun b1 ci2 V3 hb4 hc5 hi6 => ?_)
  refine ct_cI (st := []) (cg_virtual (av := [cz_i 1]) S hb4 hc5 hi6 (fun _ e => mt_X3_ruler e) md_X3_ruler q1220 q1125 se_HeldCoats_Reign_ruler__Z_I_HeldCoats_Reign (by decide) (Nat.le_of_ble_eq_true rfl) rfl dX3_noon_2) (fun x8 h7 => ?_)
  refine ct_istore_n (L' := [(1, cz_i x8), (0, cz_r l0)]) S dX3_noon_5 rfl (by decide) rfl ?_
  refine ct_iload_n (k := 0) S dX3_noon_6 rfl rfl ?_
  refine ct_iconst (v := (-1)) S dX3_noon_7 kI_m1 ?_
  refine ct_icmp_eq (tgt := 22) S dX3_noon_8 (by decide) ?_ ?_
  · refine ct_aload_n (k := 1) S dX3_noon_22 rfl rfl ?_
    refine ct_dup S dX3_noon_23 rfl ?_
    refine ct_getI S fw_X3_41 dX3_noon_24 (fun x9 => ?_)
    refine ct_iconst (v := 1) S dX3_noon_27 kI_1 ?_
    refine ct_iadd S dX3_noon_28 ?_
    refine ct_put S fw_X3_41 fp_X3_m_3_2 (cz_fits_i pd_I) dX3_noon_29 (fun h10 => ?_)
    refine ct_aload_n (k := 1) S dX3_noon_32 rfl rfl ?_
    refine ct_getI S fw_X3_44 dX3_noon_33 (fun x11 => ?_)
    refine ct_iconst (v := (-1)) S dX3_noon_36 kI_m1 ?_
    refine ct_icmp_ne (tgt := 48) S dX3_noon_37 (by decide) ?_ ?_
    · exact ct_vret S rfl dX3_noon_48
    · refine ct_aload_n (k := 1) S dX3_noon_40 rfl rfl ?_
      refine ct_aload_n (k := 1) S dX3_noon_41 rfl rfl ?_
      refine ct_getI S fw_X3_37 dX3_noon_42 (fun x12 => ?_)
      refine ct_put S fw_X3_44 fp_X3_m_3_3 (cz_fits_i pd_I) dX3_noon_45 (fun h13 => ?_)
      exact ct_vret S rfl dX3_noon_48
  · refine ct_aload_n (k := 1) S dX3_noon_11 rfl rfl ?_
    refine ct_getR S fw_X3_30 dX3_noon_12 (fun r14 => ?_)
    refine ct_iload_n (k := 0) S dX3_noon_15 rfl rfl ?_
    refine ct_dup2 S dX3_noon_16 rfl rfl ?_
    refine ct_iald S dX3_noon_17 (fun x15 => ?_)
    refine ct_iconst (v := 1) S dX3_noon_18 kI_1 ?_
    refine ct_iadd S dX3_noon_19 ?_
    refine ct_iast S dX3_noon_20 (fun h16 => ?_)
    exact ct_vret S rfl dX3_noon_21
theorem mt_X3_noon {l : Launch} {D : cz_D} {l0 : Option Nat} {h : cz_H} {oh : cz_O × cz_H} (hz : fn_X3_noon l0 h = some oh) : cz_M l D yX3_noon (ws_ yX3_noon cX3_noon 2 ((Option.none : Option Jvm.ClassFile.FieldType))) 8 [cz_r l0] h oh := cz_met (plainFor_of_name (by decide)) (Nat.le_of_ble_eq_true rfl) hz (fun K hl S => wk_X3_noon S)
/-! HeldCoats$Reign.square(I)I -/
def dkwX3_square_0 : List UInt8 := [26, 26, 104, 172]
abbrev dktX3_square_0 : List UInt8 := dkwX3_square_0 ++ []
theorem dksX3_square_0 : cX3_square.data.toList.drop 0 = dktX3_square_0 := by decide +kernel
theorem dX3_square_0 : decode cX3_square 0 = .ok (.iload_n 0, 1) := dk_26 (dk_at dksX3_square_0 0 rfl rfl)
theorem dX3_square_1 : decode cX3_square 1 = .ok (.iload_n 0, 1) := dk_26 (dk_at dksX3_square_0 1 rfl rfl)
theorem dX3_square_2 : decode cX3_square 2 = .ok (.imul, 1) := dk_104 (dk_at dksX3_square_0 2 rfl rfl)
theorem dX3_square_3 : decode cX3_square 3 = .ok (.ireturn, 1) := dk_172 (dk_at dksX3_square_0 3 rfl rfl)
set_option maxHeartbeats 4000000 in
set_option maxRecDepth 100000 in
noncomputable def fn_X3_square (l0 : Int32) (h : cz_H) : cz_Z := some (.inl (some (cz_i (l0 * l0))), h)
set_option maxHeartbeats 4000000 in
set_option maxRecDepth 100000 in
theorem wk_X3_square {K : cz_K} {D : cz_D} {h0 : cz_H} {oh : cz_O × cz_H} {l0 : Int32} {h : cz_H} (S : cz_S K D h0 cX3_square 1 "HeldCoats$Reign" ((Option.some Jvm.ClassFile.FieldType.int)) "square" ([])) : cz_T K D 2 h0 oh 1 (fn_X3_square l0 h) h 0 [(0, cz_i l0)] [] := by
  unfold fn_X3_square
  refine ct_iload_n (k := 0) S dX3_square_0 rfl rfl ?_
  refine ct_iload_n (k := 0) S dX3_square_1 rfl rfl ?_
  refine ct_imul S dX3_square_2 ?_
  exact ct_iret S rfl dX3_square_3
theorem mt_X3_square {l : Launch} {D : cz_D} {l0 : Int32} {h : cz_H} {oh : cz_O × cz_H} (hz : fn_X3_square l0 h = some oh) : cz_M l D yX3_square (ws_ yX3_square cX3_square 1 ((Option.some Jvm.ClassFile.FieldType.int))) 2 [cz_i l0] h oh := cz_met (plainFor_of_name (by decide)) (Nat.le_of_ble_eq_true rfl) hz (fun K hl S => wk_X3_square S)
/-! HeldCoats$Reign.pass()Z -/
def dkwX3_pass_4 : List UInt8 := [180, 0, 37, 4, 96, 181, 0, 37, 4, 172]
abbrev dktX3_pass_4 : List UInt8 := dkwX3_pass_4 ++ []
def dkwX3_pass_3 : List UInt8 := [16, 10, 16, 19, 184, 0, 178, 153, 0, 8, 42, 27, 182, 0, 182, 132, 1, 1, 167, 255, 224, 42, 89]
abbrev dktX3_pass_3 : List UInt8 := dkwX3_pass_3 ++ dktX3_pass_4
def dkwX3_pass_2 : List UInt8 := [79, 132, 1, 1, 167, 255, 219, 3, 60, 27, 42, 182, 0, 59, 162, 0, 30, 42, 180, 0, 9, 27, 46]
abbrev dktX3_pass_2 : List UInt8 := dkwX3_pass_2 ++ dktX3_pass_3
def dkwX3_pass_1 : List UInt8 := [180, 0, 27, 27, 92, 46, 42, 27, 42, 27, 182, 0, 168, 42, 180, 0, 37, 182, 0, 171, 184, 0, 175, 96]
abbrev dktX3_pass_1 : List UInt8 := dkwX3_pass_1 ++ dktX3_pass_2
def dkwX3_pass_0 : List UInt8 := [42, 182, 0, 161, 153, 0, 5, 3, 172, 42, 182, 0, 165, 3, 60, 27, 42, 182, 0, 139, 162, 0, 35, 42]
abbrev dktX3_pass_0 : List UInt8 := dkwX3_pass_0 ++ dktX3_pass_1
theorem dksX3_pass_0 : cX3_pass.data.toList.drop 0 = dktX3_pass_0 := by decide +kernel
theorem dksX3_pass_1 : cX3_pass.data.toList.drop 24 = dktX3_pass_1 := dk_seg dksX3_pass_0 24 rfl rfl
theorem dksX3_pass_2 : cX3_pass.data.toList.drop 48 = dktX3_pass_2 := dk_seg dksX3_pass_1 24 rfl rfl
theorem dksX3_pass_3 : cX3_pass.data.toList.drop 71 = dktX3_pass_3 := dk_seg dksX3_pass_2 23 rfl rfl
theorem dksX3_pass_4 : cX3_pass.data.toList.drop 94 = dktX3_pass_4 := dk_seg dksX3_pass_3 23 rfl rfl
theorem dX3_pass_0 : decode cX3_pass 0 = .ok (.aload_n 0, 1) := dk_42 (dk_at dksX3_pass_0 0 rfl rfl)
theorem dX3_pass_1 : decode cX3_pass 1 = .ok (.invokevirtual 161, 3) := dk_182 0 161 (dk_at dksX3_pass_0 1 rfl rfl)
theorem dX3_pass_4 : decode cX3_pass 4 = .ok (.ifCond .eq 5, 3) := dk_153 0 5 (dk_at dksX3_pass_0 4 rfl rfl)
theorem dX3_pass_7 : decode cX3_pass 7 = .ok (.iconst 0, 1) := dk_3 (dk_at dksX3_pass_0 7 rfl rfl)
theorem dX3_pass_8 : decode cX3_pass 8 = .ok (.ireturn, 1) := dk_172 (dk_at dksX3_pass_0 8 rfl rfl)
theorem dX3_pass_9 : decode cX3_pass 9 = .ok (.aload_n 0, 1) := dk_42 (dk_at dksX3_pass_0 9 rfl rfl)
theorem dX3_pass_10 : decode cX3_pass 10 = .ok (.invokevirtual 165, 3) := dk_182 0 165 (dk_at dksX3_pass_0 10 rfl rfl)
theorem dX3_pass_13 : decode cX3_pass 13 = .ok (.iconst 0, 1) := dk_3 (dk_at dksX3_pass_0 13 rfl rfl)
theorem dX3_pass_14 : decode cX3_pass 14 = .ok (.istore_n 1, 1) := dk_60 (dk_at dksX3_pass_0 14 rfl rfl)
theorem dX3_pass_15 : decode cX3_pass 15 = .ok (.iload_n 1, 1) := dk_27 (dk_at dksX3_pass_0 15 rfl rfl)
theorem dX3_pass_16 : decode cX3_pass 16 = .ok (.aload_n 0, 1) := dk_42 (dk_at dksX3_pass_0 16 rfl rfl)
theorem dX3_pass_17 : decode cX3_pass 17 = .ok (.invokevirtual 139, 3) := dk_182 0 139 (dk_at dksX3_pass_0 17 rfl rfl)
theorem dX3_pass_20 : decode cX3_pass 20 = .ok (.if_icmp .ge 35, 3) := dk_162 0 35 (dk_at dksX3_pass_0 20 rfl rfl)
theorem dX3_pass_23 : decode cX3_pass 23 = .ok (.aload_n 0, 1) := dk_42 (dk_at dksX3_pass_0 23 rfl rfl)
theorem dX3_pass_24 : decode cX3_pass 24 = .ok (.getfield 27, 3) := dk_180 0 27 (dk_at dksX3_pass_1 0 rfl rfl)
theorem dX3_pass_27 : decode cX3_pass 27 = .ok (.iload_n 1, 1) := dk_27 (dk_at dksX3_pass_1 3 rfl rfl)
theorem dX3_pass_28 : decode cX3_pass 28 = .ok (.dup2, 1) := dk_92 (dk_at dksX3_pass_1 4 rfl rfl)
theorem dX3_pass_29 : decode cX3_pass 29 = .ok (.iaload, 1) := dk_46 (dk_at dksX3_pass_1 5 rfl rfl)
theorem dX3_pass_30 : decode cX3_pass 30 = .ok (.aload_n 0, 1) := dk_42 (dk_at dksX3_pass_1 6 rfl rfl)
theorem dX3_pass_31 : decode cX3_pass 31 = .ok (.iload_n 1, 1) := dk_27 (dk_at dksX3_pass_1 7 rfl rfl)
theorem dX3_pass_32 : decode cX3_pass 32 = .ok (.aload_n 0, 1) := dk_42 (dk_at dksX3_pass_1 8 rfl rfl)
theorem dX3_pass_33 : decode cX3_pass 33 = .ok (.iload_n 1, 1) := dk_27 (dk_at dksX3_pass_1 9 rfl rfl)
theorem dX3_pass_34 : decode cX3_pass 34 = .ok (.invokevirtual 168, 3) := dk_182 0 168 (dk_at dksX3_pass_1 10 rfl rfl)
theorem dX3_pass_37 : decode cX3_pass 37 = .ok (.aload_n 0, 1) := dk_42 (dk_at dksX3_pass_1 13 rfl rfl)
theorem dX3_pass_38 : decode cX3_pass 38 = .ok (.getfield 37, 3) := dk_180 0 37 (dk_at dksX3_pass_1 14 rfl rfl)
theorem dX3_pass_41 : decode cX3_pass 41 = .ok (.invokevirtual 171, 3) := dk_182 0 171 (dk_at dksX3_pass_1 17 rfl rfl)
theorem dX3_pass_44 : decode cX3_pass 44 = .ok (.invokestatic 175, 3) := dk_184 0 175 (dk_at dksX3_pass_1 20 rfl rfl)
theorem dX3_pass_47 : decode cX3_pass 47 = .ok (.iadd, 1) := dk_96 (dk_at dksX3_pass_1 23 rfl rfl)
theorem dX3_pass_48 : decode cX3_pass 48 = .ok (.iastore, 1) := dk_79 (dk_at dksX3_pass_2 0 rfl rfl)
theorem dX3_pass_49 : decode cX3_pass 49 = .ok (.iinc 1 1, 3) := dk_132 1 1 (dk_at dksX3_pass_2 1 rfl rfl)
theorem dX3_pass_52 : decode cX3_pass 52 = .ok (.goto (-37), 3) := dk_167 255 219 (dk_at dksX3_pass_2 4 rfl rfl)
theorem dX3_pass_55 : decode cX3_pass 55 = .ok (.iconst 0, 1) := dk_3 (dk_at dksX3_pass_2 7 rfl rfl)
theorem dX3_pass_56 : decode cX3_pass 56 = .ok (.istore_n 1, 1) := dk_60 (dk_at dksX3_pass_2 8 rfl rfl)
theorem dX3_pass_57 : decode cX3_pass 57 = .ok (.iload_n 1, 1) := dk_27 (dk_at dksX3_pass_2 9 rfl rfl)
theorem dX3_pass_58 : decode cX3_pass 58 = .ok (.aload_n 0, 1) := dk_42 (dk_at dksX3_pass_2 10 rfl rfl)
theorem dX3_pass_59 : decode cX3_pass 59 = .ok (.invokevirtual 59, 3) := dk_182 0 59 (dk_at dksX3_pass_2 11 rfl rfl)
theorem dX3_pass_62 : decode cX3_pass 62 = .ok (.if_icmp .ge 30, 3) := dk_162 0 30 (dk_at dksX3_pass_2 14 rfl rfl)
theorem dX3_pass_65 : decode cX3_pass 65 = .ok (.aload_n 0, 1) := dk_42 (dk_at dksX3_pass_2 17 rfl rfl)
theorem dX3_pass_66 : decode cX3_pass 66 = .ok (.getfield 9, 3) := dk_180 0 9 (dk_at dksX3_pass_2 18 rfl rfl)
theorem dX3_pass_69 : decode cX3_pass 69 = .ok (.iload_n 1, 1) := dk_27 (dk_at dksX3_pass_2 21 rfl rfl)
theorem dX3_pass_70 : decode cX3_pass 70 = .ok (.iaload, 1) := dk_46 (dk_at dksX3_pass_2 22 rfl rfl)
theorem dX3_pass_71 : decode cX3_pass 71 = .ok (.bipush 10, 2) := dk_16 10 (dk_at dksX3_pass_3 0 rfl rfl)
theorem dX3_pass_73 : decode cX3_pass 73 = .ok (.bipush 19, 2) := dk_16 19 (dk_at dksX3_pass_3 2 rfl rfl)
theorem dX3_pass_75 : decode cX3_pass 75 = .ok (.invokestatic 178, 3) := dk_184 0 178 (dk_at dksX3_pass_3 4 rfl rfl)
theorem dX3_pass_78 : decode cX3_pass 78 = .ok (.ifCond .eq 8, 3) := dk_153 0 8 (dk_at dksX3_pass_3 7 rfl rfl)
theorem dX3_pass_81 : decode cX3_pass 81 = .ok (.aload_n 0, 1) := dk_42 (dk_at dksX3_pass_3 10 rfl rfl)
theorem dX3_pass_82 : decode cX3_pass 82 = .ok (.iload_n 1, 1) := dk_27 (dk_at dksX3_pass_3 11 rfl rfl)
theorem dX3_pass_83 : decode cX3_pass 83 = .ok (.invokevirtual 182, 3) := dk_182 0 182 (dk_at dksX3_pass_3 12 rfl rfl)
theorem dX3_pass_86 : decode cX3_pass 86 = .ok (.iinc 1 1, 3) := dk_132 1 1 (dk_at dksX3_pass_3 15 rfl rfl)
theorem dX3_pass_89 : decode cX3_pass 89 = .ok (.goto (-32), 3) := dk_167 255 224 (dk_at dksX3_pass_3 18 rfl rfl)
theorem dX3_pass_92 : decode cX3_pass 92 = .ok (.aload_n 0, 1) := dk_42 (dk_at dksX3_pass_3 21 rfl rfl)
theorem dX3_pass_93 : decode cX3_pass 93 = .ok (.dup, 1) := dk_89 (dk_at dksX3_pass_3 22 rfl rfl)
theorem dX3_pass_94 : decode cX3_pass 94 = .ok (.getfield 37, 3) := dk_180 0 37 (dk_at dksX3_pass_4 0 rfl rfl)
theorem dX3_pass_97 : decode cX3_pass 97 = .ok (.iconst 1, 1) := dk_4 (dk_at dksX3_pass_4 3 rfl rfl)
theorem dX3_pass_98 : decode cX3_pass 98 = .ok (.iadd, 1) := dk_96 (dk_at dksX3_pass_4 4 rfl rfl)
theorem dX3_pass_99 : decode cX3_pass 99 = .ok (.putfield 37, 3) := dk_181 0 37 (dk_at dksX3_pass_4 5 rfl rfl)
theorem dX3_pass_102 : decode cX3_pass 102 = .ok (.iconst 1, 1) := dk_4 (dk_at dksX3_pass_4 8 rfl rfl)
theorem dX3_pass_103 : decode cX3_pass 103 = .ok (.ireturn, 1) := dk_172 (dk_at dksX3_pass_4 9 rfl rfl)
theorem se_HeldCoats_Reign_isOver___Z_HeldCoats_Reign : ∀ c ∈ ([3] : List Nat), ∃ q : vw_C, cz_cl[c]? = some q ∧ Cond.selects q.1 (⟨"HeldCoats$Reign", "isOver", "()Z"⟩ : MethodName) (⟨"HeldCoats$Reign", "isOver", "()Z"⟩ : MethodName) ∈ lw_all := List.forall_mem_cons.mpr ⟨⟨_, cz_cl3, q1214⟩, fun _ h => absurd h List.not_mem_nil⟩
theorem md_X3_isOver : cz_md yX3_isOver 1 (ws_ yX3_isOver cX3_isOver 1 ((Option.some Jvm.ClassFile.FieldType.boolean))) 0 := ⟨cz_ws_code q1215, q118, ⟨by decide, by decide, by decide +kernel⟩, by decide⟩
theorem se_HeldCoats_Reign_noon___V_HeldCoats_Reign : ∀ c ∈ ([3] : List Nat), ∃ q : vw_C, cz_cl[c]? = some q ∧ Cond.selects q.1 (⟨"HeldCoats$Reign", "noon", "()V"⟩ : MethodName) (⟨"HeldCoats$Reign", "noon", "()V"⟩ : MethodName) ∈ lw_all := List.forall_mem_cons.mpr ⟨⟨_, cz_cl3, qs17⟩, fun _ h => absurd h List.not_mem_nil⟩
theorem md_X3_noon : cz_md yX3_noon 2 (ws_ yX3_noon cX3_noon 2 ((Option.none : Option Jvm.ClassFile.FieldType))) 0 := ⟨cz_ws_code q1219, q118, ⟨by decide, by decide, by decide +kernel⟩, by decide⟩
theorem md_X3_square : cz_md yX3_square 1 (ws_ yX3_square cX3_square 1 ((Option.some Jvm.ClassFile.FieldType.int))) 1 := ⟨cz_ws_code q1238, q118, ⟨by decide, by decide, by decide +kernel⟩, by decide⟩
theorem se_HeldCoats_Reign_lies__I_V_HeldCoats_Reign : ∀ c ∈ ([3] : List Nat), ∃ q : vw_C, cz_cl[c]? = some q ∧ Cond.selects q.1 (⟨"HeldCoats$Reign", "lies", "(I)V"⟩ : MethodName) (⟨"HeldCoats$Reign", "lies", "(I)V"⟩ : MethodName) ∈ lw_all := List.forall_mem_cons.mpr ⟨⟨_, cz_cl3, qs18⟩, fun _ h => absurd h List.not_mem_nil⟩
theorem md_X3_lies : cz_md yX3_lies 2 (ws_ yX3_lies cX3_lies 2 ((Option.none : Option Jvm.ClassFile.FieldType))) 1 := ⟨cz_ws_code q1243, q118, ⟨by decide, by decide, by decide +kernel⟩, by decide⟩
set_option maxHeartbeats 4000000 in
set_option maxRecDepth 100000 in
noncomputable def fn_X3_pass_15 (l0 : Option Nat) (k0 : cz_H → cz_Z) : Nat → Int32 → cz_H → cz_Z
  | 0, _, _ => none
  | n + 1, l1, h => cz_rc h l0 [3] (cz_cI (fn_X3_men l0 h) (fun x23 h22 => (if x23 ≤ l1 then k0 h22 else cz_getR h22 l0 [(3, 11)] (fun r24 => cz_iald h22 r24 l1 (fun x25 => cz_rc h22 l0 [3] (cz_cI (fn_X3_wornBy l0 l1 h22) (fun x33 h32 => cz_getI h32 l0 [(3, 1)] (fun x34 => cz_rc h32 l0 [3] (cz_cI (fn_X3_chill l0 l1 x33 x34 h32) (fun x42 h41 => cz_cI (fn_X3_square x42 h41) (fun x44 h43 => cz_iast h43 r24 l1 (x25 + x44) (fun h45 => cz_leti (l1 + 1) (fun x46 => fn_X3_pass_15 l0 k0 n x46 h45)))))))))))))
set_option maxHeartbeats 4000000 in
set_option maxRecDepth 100000 in
theorem wk_X3_pass_15 {K : cz_K} {D : cz_D} {h0 : cz_H} {oh : cz_O × cz_H} {l0 : Option Nat} {k0 : cz_H → cz_Z} (S : cz_S K D h0 cX3_pass 2 "HeldCoats$Reign" ((Option.some Jvm.ClassFile.FieldType.boolean)) "pass" ([])) (hk0 : ∀ (h : cz_H), cz_T K D 9 h0 oh 2 (k0 h) h 55 [(0, cz_r l0)] []) : ∀ (n : Nat) (l1 : Int32) (h : cz_H), cz_T K D 9 h0 oh 2 (fn_X3_pass_15 l0 k0 n l1 h) h 15 [(0, cz_r l0), (1, cz_i l1)] [] := by
  intro n
  induction n with
  | zero => intros; exact ct_none
  | succ n ih =>
    intro l1 h
    rw [fn_X3_pass_15]
    refine ct_iload_n (k := 1) S dX3_pass_15 rfl rfl ?_
    refine ct_aload_n (k := 0) S dX3_pass_16 rfl rfl ?_
    refine ct_rc (fun b16 ci17 V18 hb19 hc20 hi21 => ?_)
    refine ct_cI (st := [cz_i l1]) (cg_virtual (av := []) S hb19 hc20 hi21 (fun _ e => mt_X3_men e) md_X3_men q1128 q1129 se_HeldCoats_Reign_men___I_HeldCoats_Reign (by decide) (Nat.le_of_ble_eq_true rfl) rfl dX3_pass_17) (fun x23 h22 => ?_)
    refine ct_icmp_ge (tgt := 55) S dX3_pass_20 (by decide) ?_ ?_
    · exact ct_sub [0] rfl (hk0 h22)
    · refine ct_aload_n (k := 0) S dX3_pass_23 rfl rfl ?_
      refine ct_getR S fw_X3_27 dX3_pass_24 (fun r24 => ?_)
      refine ct_iload_n (k := 1) S dX3_pass_27 rfl rfl ?_
      refine ct_dup2 S dX3_pass_28 rfl rfl ?_
      refine ct_iald S dX3_pass_29 (fun x25 => ?_)
      refine ct_aload_n (k := 0) S dX3_pass_30 rfl rfl ?_
      refine ct_iload_n (k := 1) S dX3_pass_31 rfl rfl ?_
      refine ct_aload_n (k := 0) S dX3_pass_32 rfl rfl ?_
      refine ct_iload_n (k := 1) S dX3_pass_33 rfl rfl ?_
      refine ct_rc (fun b26 ci27 V28 hb29 hc30 hi31 => ?_)
      refine ct_cI (st := [cz_i l1, cz_r l0, cz_i x25, cz_i l1, cz_r r24]) (cg_virtual (av := [cz_i l1]) S hb29 hc30 hi31 (fun _ e => mt_X3_wornBy e) md_X3_wornBy q1221 q1222 se_HeldCoats_Reign_wornBy__I_I_HeldCoats_Reign (by decide) (Nat.le_of_ble_eq_true rfl) rfl dX3_pass_34) (fun x33 h32 => ?_)
      refine ct_aload_n (k := 0) S dX3_pass_37 rfl rfl ?_
      refine ct_getI S fw_X3_37 dX3_pass_38 (fun x34 => ?_)
      refine ct_rc (fun b35 ci36 V37 hb38 hc39 hi40 => ?_)
      refine ct_cI (st := [cz_i x25, cz_i l1, cz_r r24]) (cg_virtual (av := [cz_i l1, cz_i x33, cz_i x34]) S hb38 hc39 hi40 (fun _ e => mt_X3_chill e) md_X3_chill q1225 q1226 se_HeldCoats_Reign_chill__III_I_HeldCoats_Reign (by decide) (Nat.le_of_ble_eq_true rfl) rfl dX3_pass_41) (fun x42 h41 => ?_)
      refine ct_cI (st := [cz_i x25, cz_i l1, cz_r r24]) (cg_static (av := [cz_i x42]) S (fun _ e => mt_X3_square e) md_X3_square (Or.inl q1236) q1237 (by decide) (Nat.le_of_ble_eq_true rfl) rfl dX3_pass_44) (fun x44 h43 => ?_)
      refine ct_iadd S dX3_pass_47 ?_
      refine ct_iast S dX3_pass_48 (fun h45 => ?_)
      refine ct_iincL (j := 1) (L2 := fun x46 => [(1, cz_i x46), (0, cz_r l0)]) S dX3_pass_49 rfl kI_1 (by decide) (fun _ => rfl) (fun x46 => ?_)
      refine ct_goto (tgt := 15) S dX3_pass_52 (by decide) ?_
      exact ct_sub [1, 0] rfl (ih x46 h45)
set_option maxHeartbeats 4000000 in
set_option maxRecDepth 100000 in
noncomputable def fn_X3_pass_57 (l0 : Option Nat) (k0 : cz_H → cz_Z) : Nat → Int32 → cz_H → cz_Z
  | 0, _, _ => none
  | n + 1, l1, h => cz_rc h l0 [3] (cz_cI (fn_X3_coats l0 h) (fun x55 h54 => (if x55 ≤ l1 then k0 h54 else cz_getR h54 l0 [(3, 6)] (fun r56 => cz_iald h54 r56 l1 (fun x57 => cz_cI (fn_X1_isIn x57 10 19 h54) (fun x59 h58 => (if x59 = 0 then cz_leti (l1 + 1) (fun x60 => fn_X3_pass_57 l0 k0 n x60 h58) else cz_rc h58 l0 [3] (cz_cV (fn_X3_lies l0 l1 h58) (fun h67 => cz_leti (l1 + 1) (fun x68 => fn_X3_pass_57 l0 k0 n x68 h67))))))))))
set_option maxHeartbeats 4000000 in
set_option maxRecDepth 100000 in
theorem wk_X3_pass_57 {K : cz_K} {D : cz_D} {h0 : cz_H} {oh : cz_O × cz_H} {l0 : Option Nat} {k0 : cz_H → cz_Z} (S : cz_S K D h0 cX3_pass 2 "HeldCoats$Reign" ((Option.some Jvm.ClassFile.FieldType.boolean)) "pass" ([])) (hk0 : ∀ (h : cz_H), cz_T K D 9 h0 oh 2 (k0 h) h 92 [(0, cz_r l0)] []) : ∀ (n : Nat) (l1 : Int32) (h : cz_H), cz_T K D 9 h0 oh 2 (fn_X3_pass_57 l0 k0 n l1 h) h 57 [(0, cz_r l0), (1, cz_i l1)] [] := by
  intro n
  induction n with
  | zero => intros; exact ct_none
  | succ n ih =>
    intro l1 h
    rw [fn_X3_pass_57]
    refine ct_iload_n (k := 1) S dX3_pass_57 rfl rfl ?_
    refine ct_aload_n (k := 0) S dX3_pass_58 rfl rfl ?_
    refine ct_rc (fun b48 ci49 V50 hb51 hc52 hi53 => ?_)
    refine ct_cI (st := [cz_i l1]) (cg_virtual (av := []) S hb51 hc52 hi53 (fun _ e => mt_X3_coats e) md_X3_coats q336 q337 se_HeldCoats_Reign_coats___I_HeldCoats_Reign (by decide) (Nat.le_of_ble_eq_true rfl) rfl dX3_pass_59) (fun x55 h54 => ?_)
    refine ct_icmp_ge (tgt := 92) S dX3_pass_62 (by decide) ?_ ?_
    · exact ct_sub [0] rfl (hk0 h54)
    · refine ct_aload_n (k := 0) S dX3_pass_65 rfl rfl ?_
      refine ct_getR S fw_X3_9 dX3_pass_66 (fun r56 => ?_)
      refine ct_iload_n (k := 1) S dX3_pass_69 rfl rfl ?_
      refine ct_iald S dX3_pass_70 (fun x57 => ?_)
      refine ct_bipush (v := 10) S dX3_pass_71 kB_10 ?_
      refine ct_bipush (v := 19) S dX3_pass_73 kB_19 ?_
      refine ct_cI (st := []) (cg_static (av := [cz_i x57, cz_i 10, cz_i 19]) S (fun _ e => mt_X1_isIn e) md_X1_isIn (Or.inr ⟨_, q1239⟩) q929 (by decide) (Nat.le_of_ble_eq_true rfl) rfl dX3_pass_75) (fun x59 h58 => ?_)
      refine ct_if_eq (tgt := 86) S dX3_pass_78 (by decide) ?_ ?_
      · refine ct_iincL (j := 1) (L2 := fun x60 => [(1, cz_i x60), (0, cz_r l0)]) S dX3_pass_86 rfl kI_1 (by decide) (fun _ => rfl) (fun x60 => ?_)
        refine ct_goto (tgt := 57) S dX3_pass_89 (by decide) ?_
        exact ct_sub [1, 0] rfl (ih x60 h58)
      · refine ct_aload_n (k := 0) S dX3_pass_81 rfl rfl ?_
        refine ct_iload_n (k := 1) S dX3_pass_82 rfl rfl ?_
        refine ct_rc (fun b61 ci62 V63 hb64 hc65 hi66 => ?_)
        refine ct_cV (st := []) (cg_virtual (av := [cz_i l1]) S hb64 hc65 hi66 (fun _ e => mt_X3_lies e) md_X3_lies q1240 q1242 se_HeldCoats_Reign_lies__I_V_HeldCoats_Reign (by decide) (Nat.le_of_ble_eq_true rfl) rfl dX3_pass_83) (fun h67 => ?_)
        refine ct_iincL (j := 1) (L2 := fun x68 => [(1, cz_i x68), (0, cz_r l0)]) S dX3_pass_86 rfl kI_1 (by decide) (fun _ => rfl) (fun x68 => ?_)
        refine ct_goto (tgt := 57) S dX3_pass_89 (by decide) ?_
        exact ct_sub [1, 0] rfl (ih x68 h67)
set_option maxHeartbeats 4000000 in
set_option maxRecDepth 100000 in
noncomputable def fn_X3_pass (l0 : Option Nat) (h : cz_H) : cz_Z := cz_rc h l0 [3] (cz_cI (fn_X3_isOver l0 h) (fun x8 h7 => (if x8 = 0 then cz_rc h7 l0 [3] (cz_cV (fn_X3_noon l0 h7) (fun h15 => fn_X3_pass_15 l0 (fun (h47 : cz_H) => fn_X3_pass_57 l0 (fun (h69 : cz_H) => cz_getI h69 l0 [(3, 1)] (fun x70 => cz_put h69 l0 [(3, 1)] (cz_i (x70 + 1)) (fun h71 => some (.inl (some (cz_i 1)), h71)))) 1000 0 h47) 1000 0 h15)) else some (.inl (some (cz_i 0)), h7))))
set_option maxHeartbeats 4000000 in
set_option maxRecDepth 100000 in
theorem wk_X3_pass {K : cz_K} {D : cz_D} {h0 : cz_H} {oh : cz_O × cz_H} {l0 : Option Nat} {h : cz_H} (S : cz_S K D h0 cX3_pass 2 "HeldCoats$Reign" ((Option.some Jvm.ClassFile.FieldType.boolean)) "pass" ([])) : cz_T K D 9 h0 oh 2 (fn_X3_pass l0 h) h 0 [(0, cz_r l0)] [] := by
  unfold fn_X3_pass
  refine ct_aload_n (k := 0) S dX3_pass_0 rfl rfl ?_
  refine ct_rc (fun b1 ci2 V3 hb4 hc5 hi6 => ?_)
  refine ct_cI (st := []) (cg_virtual (av := []) S hb4 hc5 hi6 (fun _ e => mt_X3_isOver e) md_X3_isOver q1212 q1213 se_HeldCoats_Reign_isOver___Z_HeldCoats_Reign (by decide) (Nat.le_of_ble_eq_true rfl) rfl dX3_pass_1) (fun x8 h7 => ?_)
  refine ct_if_eq (tgt := 9) S dX3_pass_4 (by decide) ?_ ?_
  · refine ct_aload_n (k := 0) S dX3_pass_9 rfl rfl ?_
    refine ct_rc (fun b9 ci10 V11 hb12 hc13 hi14 => ?_)
    refine ct_cV (st := []) (cg_virtual (av := []) S hb12 hc13 hi14 (fun _ e => mt_X3_noon e) md_X3_noon q1216 q1218 se_HeldCoats_Reign_noon___V_HeldCoats_Reign (by decide) (Nat.le_of_ble_eq_true rfl) rfl dX3_pass_10) (fun h15 => ?_)
    refine ct_iconst (v := 0) S dX3_pass_13 kI_0 ?_
    refine ct_istore_n (L' := [(1, cz_i 0), (0, cz_r l0)]) S dX3_pass_14 rfl (by decide) rfl ?_
    refine ct_sub [1, 0] (L' := [(0, cz_r l0), (1, cz_i 0)]) rfl (wk_X3_pass_15 S ?_ 1000 0 h15)
    · intro h47
      refine ct_iconst (v := 0) S dX3_pass_55 kI_0 ?_
      refine ct_istore_n (L' := [(1, cz_i 0), (0, cz_r l0)]) S dX3_pass_56 rfl (by decide) rfl ?_
      refine ct_sub [1, 0] (L' := [(0, cz_r l0), (1, cz_i 0)]) rfl (wk_X3_pass_57 S ?_ 1000 0 h47)
      · intro h69
        refine ct_aload_n (k := 0) S dX3_pass_92 rfl rfl ?_
        refine ct_dup S dX3_pass_93 rfl ?_
        refine ct_getI S fw_X3_37 dX3_pass_94 (fun x70 => ?_)
        refine ct_iconst (v := 1) S dX3_pass_97 kI_1 ?_
        refine ct_iadd S dX3_pass_98 ?_
        refine ct_put S fw_X3_37 fp_X3_m_3_1 (cz_fits_i pd_I) dX3_pass_99 (fun h71 => ?_)
        refine ct_iconst (v := 1) S dX3_pass_102 kI_1 ?_
        exact ct_zr (ty := .boolean) S rfl rfl dX3_pass_103
  · refine ct_iconst (v := 0) S dX3_pass_7 kI_0 ?_
    exact ct_zr (ty := .boolean) S rfl rfl dX3_pass_8
theorem mt_X3_pass {l : Launch} {D : cz_D} {l0 : Option Nat} {h : cz_H} {oh : cz_O × cz_H} (hz : fn_X3_pass l0 h = some oh) : cz_M l D yX3_pass (ws_ yX3_pass cX3_pass 2 ((Option.some Jvm.ClassFile.FieldType.boolean))) 9 [cz_r l0] h oh := cz_met (plainFor_of_name (by decide)) (Nat.le_of_ble_eq_true rfl) hz (fun K hl S => wk_X3_pass S)
/-! HeldCoats.firstDay(I)I -/
def dkwX1_firstDay_2 : List UInt8 := [182, 1, 61, 87, 167, 255, 218, 2, 172]
abbrev dktX1_firstDay_2 : List UInt8 := dkwX1_firstDay_2 ++ []
def dkwX1_firstDay_1 : List UInt8 := [180, 0, 46, 4, 182, 0, 219, 27, 160, 0, 11, 42, 180, 0, 46, 180, 0, 15, 172, 42, 180, 0, 46]
abbrev dktX1_firstDay_1 : List UInt8 := dkwX1_firstDay_1 ++ dktX1_firstDay_2
def dkwX1_firstDay_0 : List UInt8 := [42, 180, 0, 46, 42, 180, 0, 42, 182, 0, 232, 87, 42, 180, 0, 46, 182, 1, 7, 154, 0, 34, 42]
abbrev dktX1_firstDay_0 : List UInt8 := dkwX1_firstDay_0 ++ dktX1_firstDay_1
theorem dksX1_firstDay_0 : cX1_firstDay.data.toList.drop 0 = dktX1_firstDay_0 := by decide +kernel
theorem dksX1_firstDay_1 : cX1_firstDay.data.toList.drop 23 = dktX1_firstDay_1 := dk_seg dksX1_firstDay_0 23 rfl rfl
theorem dksX1_firstDay_2 : cX1_firstDay.data.toList.drop 46 = dktX1_firstDay_2 := dk_seg dksX1_firstDay_1 23 rfl rfl
theorem dX1_firstDay_0 : decode cX1_firstDay 0 = .ok (.aload_n 0, 1) := dk_42 (dk_at dksX1_firstDay_0 0 rfl rfl)
theorem dX1_firstDay_1 : decode cX1_firstDay 1 = .ok (.getfield 46, 3) := dk_180 0 46 (dk_at dksX1_firstDay_0 1 rfl rfl)
theorem dX1_firstDay_4 : decode cX1_firstDay 4 = .ok (.aload_n 0, 1) := dk_42 (dk_at dksX1_firstDay_0 4 rfl rfl)
theorem dX1_firstDay_5 : decode cX1_firstDay 5 = .ok (.getfield 42, 3) := dk_180 0 42 (dk_at dksX1_firstDay_0 5 rfl rfl)
theorem dX1_firstDay_8 : decode cX1_firstDay 8 = .ok (.invokevirtual 232, 3) := dk_182 0 232 (dk_at dksX1_firstDay_0 8 rfl rfl)
theorem dX1_firstDay_11 : decode cX1_firstDay 11 = .ok (.pop, 1) := dk_87 (dk_at dksX1_firstDay_0 11 rfl rfl)
theorem dX1_firstDay_12 : decode cX1_firstDay 12 = .ok (.aload_n 0, 1) := dk_42 (dk_at dksX1_firstDay_0 12 rfl rfl)
theorem dX1_firstDay_13 : decode cX1_firstDay 13 = .ok (.getfield 46, 3) := dk_180 0 46 (dk_at dksX1_firstDay_0 13 rfl rfl)
theorem dX1_firstDay_16 : decode cX1_firstDay 16 = .ok (.invokevirtual 263, 3) := dk_182 1 7 (dk_at dksX1_firstDay_0 16 rfl rfl)
theorem dX1_firstDay_19 : decode cX1_firstDay 19 = .ok (.ifCond .ne 34, 3) := dk_154 0 34 (dk_at dksX1_firstDay_0 19 rfl rfl)
theorem dX1_firstDay_22 : decode cX1_firstDay 22 = .ok (.aload_n 0, 1) := dk_42 (dk_at dksX1_firstDay_0 22 rfl rfl)
theorem dX1_firstDay_23 : decode cX1_firstDay 23 = .ok (.getfield 46, 3) := dk_180 0 46 (dk_at dksX1_firstDay_1 0 rfl rfl)
theorem dX1_firstDay_26 : decode cX1_firstDay 26 = .ok (.iconst 1, 1) := dk_4 (dk_at dksX1_firstDay_1 3 rfl rfl)
theorem dX1_firstDay_27 : decode cX1_firstDay 27 = .ok (.invokevirtual 219, 3) := dk_182 0 219 (dk_at dksX1_firstDay_1 4 rfl rfl)
theorem dX1_firstDay_30 : decode cX1_firstDay 30 = .ok (.iload_n 1, 1) := dk_27 (dk_at dksX1_firstDay_1 7 rfl rfl)
theorem dX1_firstDay_31 : decode cX1_firstDay 31 = .ok (.if_icmp .ne 11, 3) := dk_160 0 11 (dk_at dksX1_firstDay_1 8 rfl rfl)
theorem dX1_firstDay_34 : decode cX1_firstDay 34 = .ok (.aload_n 0, 1) := dk_42 (dk_at dksX1_firstDay_1 11 rfl rfl)
theorem dX1_firstDay_35 : decode cX1_firstDay 35 = .ok (.getfield 46, 3) := dk_180 0 46 (dk_at dksX1_firstDay_1 12 rfl rfl)
theorem dX1_firstDay_38 : decode cX1_firstDay 38 = .ok (.getfield 15, 3) := dk_180 0 15 (dk_at dksX1_firstDay_1 15 rfl rfl)
theorem dX1_firstDay_41 : decode cX1_firstDay 41 = .ok (.ireturn, 1) := dk_172 (dk_at dksX1_firstDay_1 18 rfl rfl)
theorem dX1_firstDay_42 : decode cX1_firstDay 42 = .ok (.aload_n 0, 1) := dk_42 (dk_at dksX1_firstDay_1 19 rfl rfl)
theorem dX1_firstDay_43 : decode cX1_firstDay 43 = .ok (.getfield 46, 3) := dk_180 0 46 (dk_at dksX1_firstDay_1 20 rfl rfl)
theorem dX1_firstDay_46 : decode cX1_firstDay 46 = .ok (.invokevirtual 317, 3) := dk_182 1 61 (dk_at dksX1_firstDay_2 0 rfl rfl)
theorem dX1_firstDay_49 : decode cX1_firstDay 49 = .ok (.pop, 1) := dk_87 (dk_at dksX1_firstDay_2 3 rfl rfl)
theorem dX1_firstDay_50 : decode cX1_firstDay 50 = .ok (.goto (-38), 3) := dk_167 255 218 (dk_at dksX1_firstDay_2 4 rfl rfl)
theorem dX1_firstDay_53 : decode cX1_firstDay 53 = .ok (.iconst (-1), 1) := dk_2 (dk_at dksX1_firstDay_2 7 rfl rfl)
theorem dX1_firstDay_54 : decode cX1_firstDay 54 = .ok (.ireturn, 1) := dk_172 (dk_at dksX1_firstDay_2 8 rfl rfl)
theorem fw_X1_46 : cz_FW "HeldCoats" 46 [(0, 5)] "LHeldCoats$Reign;" := ⟨"HeldCoats", "trial", Or.inl q385, List.forall_mem_cons.mpr ⟨⟨RX1, TX1, 18, rfl, by decide, rfl, rfl, Or.inl rfl⟩, fun _ h => absurd h List.not_mem_nil⟩, by decide⟩
theorem se_HeldCoats_Reign_as__LHeldCoats_Reign__LHeldCoats_Reign__HeldCoats_Reign : ∀ c ∈ ([3] : List Nat), ∃ q : vw_C, cz_cl[c]? = some q ∧ Cond.selects q.1 (⟨"HeldCoats$Reign", "as", "(LHeldCoats$Reign;)LHeldCoats$Reign;"⟩ : MethodName) (⟨"HeldCoats$Reign", "as", "(LHeldCoats$Reign;)LHeldCoats$Reign;"⟩ : MethodName) ∈ lw_all := List.forall_mem_cons.mpr ⟨⟨_, cz_cl3, q1192⟩, fun _ h => absurd h List.not_mem_nil⟩
theorem md_X3_as : cz_md yX3_as 2 (ws_ yX3_as cX3_as 2 ((Option.some (Jvm.ClassFile.FieldType.object "HeldCoats$Reign")))) 1 := ⟨cz_ws_code q1193, q118, ⟨by decide, by decide, by decide +kernel⟩, by decide⟩
theorem se_HeldCoats_Reign_pass___Z_HeldCoats_Reign : ∀ c ∈ ([3] : List Nat), ∃ q : vw_C, cz_cl[c]? = some q ∧ Cond.selects q.1 (⟨"HeldCoats$Reign", "pass", "()Z"⟩ : MethodName) (⟨"HeldCoats$Reign", "pass", "()Z"⟩ : MethodName) ∈ lw_all := List.forall_mem_cons.mpr ⟨⟨_, cz_cl3, q1210⟩, fun _ h => absurd h List.not_mem_nil⟩
theorem md_X3_pass : cz_md yX3_pass 2 (ws_ yX3_pass cX3_pass 2 ((Option.some Jvm.ClassFile.FieldType.boolean))) 0 := ⟨cz_ws_code q1211, q118, ⟨by decide, by decide, by decide +kernel⟩, by decide⟩
set_option maxHeartbeats 4000000 in
set_option maxRecDepth 100000 in
noncomputable def fn_X1_firstDay_12 (l0 : Option Nat) (l1 : Int32) (k0 : cz_H → cz_Z) (k1 : cz_H → cz_Z) : Nat → cz_H → cz_Z
  | 0, _ => none
  | n + 1, h => cz_getR h l0 [(0, 5)] (fun r11 => cz_rc h r11 [3] (cz_cI (fn_X3_isOver r11 h) (fun x19 h18 => (if x19 = 0 then cz_getR h18 l0 [(0, 5)] (fun r20 => cz_rc h18 r20 [3] (cz_cI (fn_X3_ruler r20 1 h18) (fun x28 h27 => (if x28 = l1 then k0 h27 else cz_getR h27 l0 [(0, 5)] (fun r29 => cz_rc h27 r29 [3] (cz_cI (fn_X3_pass r29 h27) (fun x37 h36 => fn_X1_firstDay_12 l0 l1 k0 k1 n h36))))))) else k1 h18))))
set_option maxHeartbeats 4000000 in
set_option maxRecDepth 100000 in
theorem wk_X1_firstDay_12 {K : cz_K} {D : cz_D} {h0 : cz_H} {oh : cz_O × cz_H} {l0 : Option Nat} {l1 : Int32} {k0 : cz_H → cz_Z} {k1 : cz_H → cz_Z} (S : cz_S K D h0 cX1_firstDay 2 "HeldCoats" ((Option.some Jvm.ClassFile.FieldType.int)) "firstDay" ([])) (hk0 : ∀ (h : cz_H), cz_T K D 10 h0 oh 2 (k0 h) h 34 [(0, cz_r l0)] []) (hk1 : ∀ (h : cz_H), cz_T K D 10 h0 oh 2 (k1 h) h 53 [] []) : ∀ (n : Nat) (h : cz_H), cz_T K D 10 h0 oh 2 (fn_X1_firstDay_12 l0 l1 k0 k1 n h) h 12 [(0, cz_r l0), (1, cz_i l1)] [] := by
  intro n
  induction n with
  | zero => intros; exact ct_none
  | succ n ih =>
    intro h
    rw [fn_X1_firstDay_12]
    refine ct_aload_n (k := 0) S dX1_firstDay_12 rfl rfl ?_
    refine ct_getR S fw_X1_46 dX1_firstDay_13 (fun r11 => ?_)
    refine ct_rc (fun b12 ci13 V14 hb15 hc16 hi17 => ?_)
    refine ct_cI (st := []) (cg_virtual (av := []) S hb15 hc16 hi17 (fun _ e => mt_X3_isOver e) md_X3_isOver q1356 q1213 se_HeldCoats_Reign_isOver___Z_HeldCoats_Reign (by decide) (Nat.le_of_ble_eq_true rfl) rfl dX1_firstDay_16) (fun x19 h18 => ?_)
    refine ct_if_ne (tgt := 53) S dX1_firstDay_19 (by decide) ?_ ?_
    · exact ct_sub [] rfl (hk1 h18)
    · refine ct_aload_n (k := 0) S dX1_firstDay_22 rfl rfl ?_
      refine ct_getR S fw_X1_46 dX1_firstDay_23 (fun r20 => ?_)
      refine ct_iconst (v := 1) S dX1_firstDay_26 kI_1 ?_
      refine ct_rc (fun b21 ci22 V23 hb24 hc25 hi26 => ?_)
      refine ct_cI (st := []) (cg_virtual (av := [cz_i 1]) S hb24 hc25 hi26 (fun _ e => mt_X3_ruler e) md_X3_ruler q1124 q1125 se_HeldCoats_Reign_ruler__Z_I_HeldCoats_Reign (by decide) (Nat.le_of_ble_eq_true rfl) rfl dX1_firstDay_27) (fun x28 h27 => ?_)
      refine ct_iload_n (k := 1) S dX1_firstDay_30 rfl rfl ?_
      refine ct_icmp_ne (tgt := 42) S dX1_firstDay_31 (by decide) ?_ ?_
      · refine ct_aload_n (k := 0) S dX1_firstDay_42 rfl rfl ?_
        refine ct_getR S fw_X1_46 dX1_firstDay_43 (fun r29 => ?_)
        refine ct_rc (fun b30 ci31 V32 hb33 hc34 hi35 => ?_)
        refine ct_cI (st := []) (cg_virtual (av := []) S hb33 hc34 hi35 (fun _ e => mt_X3_pass e) md_X3_pass q1444 q1209 se_HeldCoats_Reign_pass___Z_HeldCoats_Reign (by decide) (Nat.le_of_ble_eq_true rfl) rfl dX1_firstDay_46) (fun x37 h36 => ?_)
        refine ct_pop S dX1_firstDay_49 rfl ?_
        refine ct_goto (tgt := 12) S dX1_firstDay_50 (by decide) ?_
        exact ih h36
      · exact ct_sub [0] rfl (hk0 h27)
set_option maxHeartbeats 4000000 in
set_option maxRecDepth 100000 in
noncomputable def fn_X1_firstDay (l0 : Option Nat) (l1 : Int32) (h : cz_H) : cz_Z := cz_getR h l0 [(0, 5)] (fun r1 => cz_getR h l0 [(0, 4)] (fun r2 => cz_rc h r1 [3] (cz_cR (fn_X3_as r1 r2 h) (fun r10 h9 => fn_X1_firstDay_12 l0 l1 (fun (h38 : cz_H) => cz_getR h38 l0 [(0, 5)] (fun r39 => cz_getI h38 r39 [(3, 1)] (fun x40 => some (.inl (some (cz_i x40)), h38)))) (fun (h41 : cz_H) => some (.inl (some (cz_i (-1))), h41)) 1000 h9))))
set_option maxHeartbeats 4000000 in
set_option maxRecDepth 100000 in
theorem wk_X1_firstDay {K : cz_K} {D : cz_D} {h0 : cz_H} {oh : cz_O × cz_H} {l0 : Option Nat} {l1 : Int32} {h : cz_H} (S : cz_S K D h0 cX1_firstDay 2 "HeldCoats" ((Option.some Jvm.ClassFile.FieldType.int)) "firstDay" ([])) : cz_T K D 10 h0 oh 2 (fn_X1_firstDay l0 l1 h) h 0 [(0, cz_r l0), (1, cz_i l1)] [] := by
  unfold fn_X1_firstDay
  refine ct_aload_n (k := 0) S dX1_firstDay_0 rfl rfl ?_
  refine ct_getR S fw_X1_46 dX1_firstDay_1 (fun r1 => ?_)
  refine ct_aload_n (k := 0) S dX1_firstDay_4 rfl rfl ?_
  refine ct_getR S fw_X1_42 dX1_firstDay_5 (fun r2 => ?_)
  refine ct_rc (fun b3 ci4 V5 hb6 hc7 hi8 => ?_)
  refine ct_cR (st := []) (cg_virtual (av := [cz_r r2]) S hb6 hc7 hi8 (fun _ e => mt_X3_as e) md_X3_as q1190 q1191 se_HeldCoats_Reign_as__LHeldCoats_Reign__LHeldCoats_Reign__HeldCoats_Reign (by decide) (Nat.le_of_ble_eq_true rfl) rfl dX1_firstDay_8) (fun r10 h9 => ?_)
  refine ct_pop S dX1_firstDay_11 rfl ?_
  refine ct_sub [0, 1] (L' := [(0, cz_r l0), (1, cz_i l1)]) rfl (wk_X1_firstDay_12 S ?_ ?_ 1000 h9)
  · intro h38
    refine ct_aload_n (k := 0) S dX1_firstDay_34 rfl rfl ?_
    refine ct_getR S fw_X1_46 dX1_firstDay_35 (fun r39 => ?_)
    refine ct_getI S fw_X1_15 dX1_firstDay_38 (fun x40 => ?_)
    exact ct_iret S rfl dX1_firstDay_41
  · intro h41
    refine ct_iconst (v := (-1)) S dX1_firstDay_53 kI_m1 ?_
    exact ct_iret S rfl dX1_firstDay_54
theorem mt_X1_firstDay {l : Launch} {D : cz_D} {l0 : Option Nat} {l1 : Int32} {h : cz_H} {oh : cz_O × cz_H} (hz : fn_X1_firstDay l0 l1 h = some oh) : cz_M l D yX1_firstDay (ws_ yX1_firstDay cX1_firstDay 2 ((Option.some Jvm.ClassFile.FieldType.int))) 10 [cz_r l0, cz_i l1] h oh := cz_met (plainFor_of_name (by decide)) (Nat.le_of_ble_eq_true rfl) hz (fun K hl S => wk_X1_firstDay S)
/-! HeldCoats.bare()I -/
def dkwX1_bare_0 : List UInt8 := [42, 2, 182, 1, 64, 172]
abbrev dktX1_bare_0 : List UInt8 := dkwX1_bare_0 ++ []
theorem dksX1_bare_0 : cX1_bare.data.toList.drop 0 = dktX1_bare_0 := by decide +kernel
theorem dX1_bare_0 : decode cX1_bare 0 = .ok (.aload_n 0, 1) := dk_42 (dk_at dksX1_bare_0 0 rfl rfl)
theorem dX1_bare_1 : decode cX1_bare 1 = .ok (.iconst (-1), 1) := dk_2 (dk_at dksX1_bare_0 1 rfl rfl)
theorem dX1_bare_2 : decode cX1_bare 2 = .ok (.invokevirtual 320, 3) := dk_182 1 64 (dk_at dksX1_bare_0 2 rfl rfl)
theorem dX1_bare_5 : decode cX1_bare 5 = .ok (.ireturn, 1) := dk_172 (dk_at dksX1_bare_0 5 rfl rfl)
theorem se_HeldCoats_firstDay__I_I_HeldCoats : ∀ c ∈ ([0] : List Nat), ∃ q : vw_C, cz_cl[c]? = some q ∧ Cond.selects q.1 (⟨"HeldCoats", "firstDay", "(I)I"⟩ : MethodName) (⟨"HeldCoats", "firstDay", "(I)I"⟩ : MethodName) ∈ lw_all := List.forall_mem_cons.mpr ⟨⟨_, cz_cl0, qs28⟩, fun _ h => absurd h List.not_mem_nil⟩
theorem md_X1_firstDay : cz_md yX1_firstDay 2 (ws_ yX1_firstDay cX1_firstDay 2 ((Option.some Jvm.ClassFile.FieldType.int))) 1 := ⟨cz_ws_code q1452, q113, ⟨by decide, by decide, by decide +kernel⟩, by decide⟩
set_option maxHeartbeats 4000000 in
set_option maxRecDepth 100000 in
noncomputable def fn_X1_bare (l0 : Option Nat) (h : cz_H) : cz_Z := cz_rc h l0 [0] (cz_cI (fn_X1_firstDay l0 (-1) h) (fun x8 h7 => some (.inl (some (cz_i x8)), h7)))
set_option maxHeartbeats 4000000 in
set_option maxRecDepth 100000 in
theorem wk_X1_bare {K : cz_K} {D : cz_D} {h0 : cz_H} {oh : cz_O × cz_H} {l0 : Option Nat} {h : cz_H} (S : cz_S K D h0 cX1_bare 1 "HeldCoats" ((Option.some Jvm.ClassFile.FieldType.int)) "bare" ([])) : cz_T K D 11 h0 oh 1 (fn_X1_bare l0 h) h 0 [(0, cz_r l0)] [] := by
  unfold fn_X1_bare
  refine ct_aload_n (k := 0) S dX1_bare_0 rfl rfl ?_
  refine ct_iconst (v := (-1)) S dX1_bare_1 kI_m1 ?_
  refine ct_rc (fun b1 ci2 V3 hb4 hc5 hi6 => ?_)
  refine ct_cI (st := []) (cg_virtual (av := [cz_i (-1)]) S hb4 hc5 hi6 (fun _ e => mt_X1_firstDay e) md_X1_firstDay q1449 q1451 se_HeldCoats_firstDay__I_I_HeldCoats (by decide) (Nat.le_of_ble_eq_true rfl) rfl dX1_bare_2) (fun x8 h7 => ?_)
  exact ct_iret S rfl dX1_bare_5
theorem mt_X1_bare {l : Launch} {D : cz_D} {l0 : Option Nat} {h : cz_H} {oh : cz_O × cz_H} (hz : fn_X1_bare l0 h = some oh) : cz_M l D yX1_bare (ws_ yX1_bare cX1_bare 1 ((Option.some Jvm.ClassFile.FieldType.int))) 11 [cz_r l0] h oh := cz_met (plainFor_of_name (by decide)) (Nat.le_of_ble_eq_true rfl) hz (fun K hl S => wk_X1_bare S)
/-! java/lang/Integer.bitCount(I)I -/
def dkwJ17_bitCount_2 : List UInt8 := [26, 16, 63, 126, 172]
abbrev dktJ17_bitCount_2 : List UInt8 := dkwJ17_bitCount_2 ++ []
def dkwJ17_bitCount_1 : List UInt8 := [26, 26, 7, 124, 96, 19, 1, 11, 126, 59, 26, 26, 16, 8, 124, 96, 59, 26, 26, 16, 16, 124, 96, 59]
abbrev dktJ17_bitCount_1 : List UInt8 := dkwJ17_bitCount_1 ++ dktJ17_bitCount_2
def dkwJ17_bitCount_0 : List UInt8 := [26, 26, 4, 124, 19, 1, 9, 126, 100, 59, 26, 19, 1, 10, 126, 26, 5, 124, 19, 1, 10, 126, 96, 59]
abbrev dktJ17_bitCount_0 : List UInt8 := dkwJ17_bitCount_0 ++ dktJ17_bitCount_1
theorem dksJ17_bitCount_0 : cJ17_bitCount.data.toList.drop 0 = dktJ17_bitCount_0 := by decide +kernel
theorem dksJ17_bitCount_1 : cJ17_bitCount.data.toList.drop 24 = dktJ17_bitCount_1 := dk_seg dksJ17_bitCount_0 24 rfl rfl
theorem dksJ17_bitCount_2 : cJ17_bitCount.data.toList.drop 48 = dktJ17_bitCount_2 := dk_seg dksJ17_bitCount_1 24 rfl rfl
theorem dJ17_bitCount_0 : decode cJ17_bitCount 0 = .ok (.iload_n 0, 1) := dk_26 (dk_at dksJ17_bitCount_0 0 rfl rfl)
theorem dJ17_bitCount_1 : decode cJ17_bitCount 1 = .ok (.iload_n 0, 1) := dk_26 (dk_at dksJ17_bitCount_0 1 rfl rfl)
theorem dJ17_bitCount_2 : decode cJ17_bitCount 2 = .ok (.iconst 1, 1) := dk_4 (dk_at dksJ17_bitCount_0 2 rfl rfl)
theorem dJ17_bitCount_3 : decode cJ17_bitCount 3 = .ok (.iushr, 1) := dk_124 (dk_at dksJ17_bitCount_0 3 rfl rfl)
theorem dJ17_bitCount_4 : decode cJ17_bitCount 4 = .ok (.ldc_w 265, 3) := dk_19 1 9 (dk_at dksJ17_bitCount_0 4 rfl rfl)
theorem dJ17_bitCount_7 : decode cJ17_bitCount 7 = .ok (.iand, 1) := dk_126 (dk_at dksJ17_bitCount_0 7 rfl rfl)
theorem dJ17_bitCount_8 : decode cJ17_bitCount 8 = .ok (.isub, 1) := dk_100 (dk_at dksJ17_bitCount_0 8 rfl rfl)
theorem dJ17_bitCount_9 : decode cJ17_bitCount 9 = .ok (.istore_n 0, 1) := dk_59 (dk_at dksJ17_bitCount_0 9 rfl rfl)
theorem dJ17_bitCount_10 : decode cJ17_bitCount 10 = .ok (.iload_n 0, 1) := dk_26 (dk_at dksJ17_bitCount_0 10 rfl rfl)
theorem dJ17_bitCount_11 : decode cJ17_bitCount 11 = .ok (.ldc_w 266, 3) := dk_19 1 10 (dk_at dksJ17_bitCount_0 11 rfl rfl)
theorem dJ17_bitCount_14 : decode cJ17_bitCount 14 = .ok (.iand, 1) := dk_126 (dk_at dksJ17_bitCount_0 14 rfl rfl)
theorem dJ17_bitCount_15 : decode cJ17_bitCount 15 = .ok (.iload_n 0, 1) := dk_26 (dk_at dksJ17_bitCount_0 15 rfl rfl)
theorem dJ17_bitCount_16 : decode cJ17_bitCount 16 = .ok (.iconst 2, 1) := dk_5 (dk_at dksJ17_bitCount_0 16 rfl rfl)
theorem dJ17_bitCount_17 : decode cJ17_bitCount 17 = .ok (.iushr, 1) := dk_124 (dk_at dksJ17_bitCount_0 17 rfl rfl)
theorem dJ17_bitCount_18 : decode cJ17_bitCount 18 = .ok (.ldc_w 266, 3) := dk_19 1 10 (dk_at dksJ17_bitCount_0 18 rfl rfl)
theorem dJ17_bitCount_21 : decode cJ17_bitCount 21 = .ok (.iand, 1) := dk_126 (dk_at dksJ17_bitCount_0 21 rfl rfl)
theorem dJ17_bitCount_22 : decode cJ17_bitCount 22 = .ok (.iadd, 1) := dk_96 (dk_at dksJ17_bitCount_0 22 rfl rfl)
theorem dJ17_bitCount_23 : decode cJ17_bitCount 23 = .ok (.istore_n 0, 1) := dk_59 (dk_at dksJ17_bitCount_0 23 rfl rfl)
theorem dJ17_bitCount_24 : decode cJ17_bitCount 24 = .ok (.iload_n 0, 1) := dk_26 (dk_at dksJ17_bitCount_1 0 rfl rfl)
theorem dJ17_bitCount_25 : decode cJ17_bitCount 25 = .ok (.iload_n 0, 1) := dk_26 (dk_at dksJ17_bitCount_1 1 rfl rfl)
theorem dJ17_bitCount_26 : decode cJ17_bitCount 26 = .ok (.iconst 4, 1) := dk_7 (dk_at dksJ17_bitCount_1 2 rfl rfl)
theorem dJ17_bitCount_27 : decode cJ17_bitCount 27 = .ok (.iushr, 1) := dk_124 (dk_at dksJ17_bitCount_1 3 rfl rfl)
theorem dJ17_bitCount_28 : decode cJ17_bitCount 28 = .ok (.iadd, 1) := dk_96 (dk_at dksJ17_bitCount_1 4 rfl rfl)
theorem dJ17_bitCount_29 : decode cJ17_bitCount 29 = .ok (.ldc_w 267, 3) := dk_19 1 11 (dk_at dksJ17_bitCount_1 5 rfl rfl)
theorem dJ17_bitCount_32 : decode cJ17_bitCount 32 = .ok (.iand, 1) := dk_126 (dk_at dksJ17_bitCount_1 8 rfl rfl)
theorem dJ17_bitCount_33 : decode cJ17_bitCount 33 = .ok (.istore_n 0, 1) := dk_59 (dk_at dksJ17_bitCount_1 9 rfl rfl)
theorem dJ17_bitCount_34 : decode cJ17_bitCount 34 = .ok (.iload_n 0, 1) := dk_26 (dk_at dksJ17_bitCount_1 10 rfl rfl)
theorem dJ17_bitCount_35 : decode cJ17_bitCount 35 = .ok (.iload_n 0, 1) := dk_26 (dk_at dksJ17_bitCount_1 11 rfl rfl)
theorem dJ17_bitCount_36 : decode cJ17_bitCount 36 = .ok (.bipush 8, 2) := dk_16 8 (dk_at dksJ17_bitCount_1 12 rfl rfl)
theorem dJ17_bitCount_38 : decode cJ17_bitCount 38 = .ok (.iushr, 1) := dk_124 (dk_at dksJ17_bitCount_1 14 rfl rfl)
theorem dJ17_bitCount_39 : decode cJ17_bitCount 39 = .ok (.iadd, 1) := dk_96 (dk_at dksJ17_bitCount_1 15 rfl rfl)
theorem dJ17_bitCount_40 : decode cJ17_bitCount 40 = .ok (.istore_n 0, 1) := dk_59 (dk_at dksJ17_bitCount_1 16 rfl rfl)
theorem dJ17_bitCount_41 : decode cJ17_bitCount 41 = .ok (.iload_n 0, 1) := dk_26 (dk_at dksJ17_bitCount_1 17 rfl rfl)
theorem dJ17_bitCount_42 : decode cJ17_bitCount 42 = .ok (.iload_n 0, 1) := dk_26 (dk_at dksJ17_bitCount_1 18 rfl rfl)
theorem dJ17_bitCount_43 : decode cJ17_bitCount 43 = .ok (.bipush 16, 2) := dk_16 16 (dk_at dksJ17_bitCount_1 19 rfl rfl)
theorem dJ17_bitCount_45 : decode cJ17_bitCount 45 = .ok (.iushr, 1) := dk_124 (dk_at dksJ17_bitCount_1 21 rfl rfl)
theorem dJ17_bitCount_46 : decode cJ17_bitCount 46 = .ok (.iadd, 1) := dk_96 (dk_at dksJ17_bitCount_1 22 rfl rfl)
theorem dJ17_bitCount_47 : decode cJ17_bitCount 47 = .ok (.istore_n 0, 1) := dk_59 (dk_at dksJ17_bitCount_1 23 rfl rfl)
theorem dJ17_bitCount_48 : decode cJ17_bitCount 48 = .ok (.iload_n 0, 1) := dk_26 (dk_at dksJ17_bitCount_2 0 rfl rfl)
theorem dJ17_bitCount_49 : decode cJ17_bitCount 49 = .ok (.bipush 63, 2) := dk_16 63 (dk_at dksJ17_bitCount_2 1 rfl rfl)
theorem dJ17_bitCount_51 : decode cJ17_bitCount 51 = .ok (.iand, 1) := dk_126 (dk_at dksJ17_bitCount_2 3 rfl rfl)
theorem dJ17_bitCount_52 : decode cJ17_bitCount 52 = .ok (.ireturn, 1) := dk_172 (dk_at dksJ17_bitCount_2 4 rfl rfl)
set_option maxHeartbeats 4000000 in
set_option maxRecDepth 100000 in
noncomputable def fn_J17_bitCount (l0 : Int32) (h : cz_H) : cz_Z := cz_leti (l0 - ((((l0).toUInt32 >>> (((1 : Int32)).toUInt32 &&& Int32.toUInt32 31)).toInt32) &&& 1431655765)) (fun x1 => cz_leti ((x1 &&& 858993459) + ((((x1).toUInt32 >>> (((2 : Int32)).toUInt32 &&& Int32.toUInt32 31)).toInt32) &&& 858993459)) (fun x2 => cz_leti ((x2 + (((x2).toUInt32 >>> (((4 : Int32)).toUInt32 &&& Int32.toUInt32 31)).toInt32)) &&& 252645135) (fun x3 => cz_leti (x3 + (((x3).toUInt32 >>> (((8 : Int32)).toUInt32 &&& Int32.toUInt32 31)).toInt32)) (fun x4 => cz_leti (x4 + (((x4).toUInt32 >>> (((16 : Int32)).toUInt32 &&& Int32.toUInt32 31)).toInt32)) (fun x5 => some (.inl (some (cz_i (x5 &&& 63))), h))))))
set_option maxHeartbeats 4000000 in
set_option maxRecDepth 100000 in
theorem wk_J17_bitCount {K : cz_K} {D : cz_D} {h0 : cz_H} {oh : cz_O × cz_H} {l0 : Int32} {h : cz_H} (S : cz_S K D h0 cJ17_bitCount 1 "java/lang/Integer" ((Option.some Jvm.ClassFile.FieldType.int)) "bitCount" ([])) : cz_T K D 2 h0 oh 1 (fn_J17_bitCount l0 h) h 0 [(0, cz_i l0)] [] := by
  unfold fn_J17_bitCount
  refine ct_iload_n (k := 0) S dJ17_bitCount_0 rfl rfl ?_
  refine ct_iload_n (k := 0) S dJ17_bitCount_1 rfl rfl ?_
  refine ct_iconst (v := 1) S dJ17_bitCount_2 kI_1 ?_
  refine ct_iushr S dJ17_bitCount_3 ?_
  refine ct_ldcw S q1378 dJ17_bitCount_4 ?_
  refine ct_iand S dJ17_bitCount_7 ?_
  refine ct_isub S dJ17_bitCount_8 ?_
  refine ct_leti (fun x1 => ?_)
  refine ct_istore_n (L' := [(0, cz_i x1)]) S dJ17_bitCount_9 rfl (by decide) rfl ?_
  refine ct_iload_n (k := 0) S dJ17_bitCount_10 rfl rfl ?_
  refine ct_ldcw S q1379 dJ17_bitCount_11 ?_
  refine ct_iand S dJ17_bitCount_14 ?_
  refine ct_iload_n (k := 0) S dJ17_bitCount_15 rfl rfl ?_
  refine ct_iconst (v := 2) S dJ17_bitCount_16 kI_2 ?_
  refine ct_iushr S dJ17_bitCount_17 ?_
  refine ct_ldcw S q1379 dJ17_bitCount_18 ?_
  refine ct_iand S dJ17_bitCount_21 ?_
  refine ct_iadd S dJ17_bitCount_22 ?_
  refine ct_leti (fun x2 => ?_)
  refine ct_istore_n (L' := [(0, cz_i x2)]) S dJ17_bitCount_23 rfl (by decide) rfl ?_
  refine ct_iload_n (k := 0) S dJ17_bitCount_24 rfl rfl ?_
  refine ct_iload_n (k := 0) S dJ17_bitCount_25 rfl rfl ?_
  refine ct_iconst (v := 4) S dJ17_bitCount_26 kI_4 ?_
  refine ct_iushr S dJ17_bitCount_27 ?_
  refine ct_iadd S dJ17_bitCount_28 ?_
  refine ct_ldcw S q1380 dJ17_bitCount_29 ?_
  refine ct_iand S dJ17_bitCount_32 ?_
  refine ct_leti (fun x3 => ?_)
  refine ct_istore_n (L' := [(0, cz_i x3)]) S dJ17_bitCount_33 rfl (by decide) rfl ?_
  refine ct_iload_n (k := 0) S dJ17_bitCount_34 rfl rfl ?_
  refine ct_iload_n (k := 0) S dJ17_bitCount_35 rfl rfl ?_
  refine ct_bipush (v := 8) S dJ17_bitCount_36 kB_8 ?_
  refine ct_iushr S dJ17_bitCount_38 ?_
  refine ct_iadd S dJ17_bitCount_39 ?_
  refine ct_leti (fun x4 => ?_)
  refine ct_istore_n (L' := [(0, cz_i x4)]) S dJ17_bitCount_40 rfl (by decide) rfl ?_
  refine ct_iload_n (k := 0) S dJ17_bitCount_41 rfl rfl ?_
  refine ct_iload_n (k := 0) S dJ17_bitCount_42 rfl rfl ?_
  refine ct_bipush (v := 16) S dJ17_bitCount_43 kB_16 ?_
  refine ct_iushr S dJ17_bitCount_45 ?_
  refine ct_iadd S dJ17_bitCount_46 ?_
  refine ct_leti (fun x5 => ?_)
  refine ct_istore_n (L' := [(0, cz_i x5)]) S dJ17_bitCount_47 rfl (by decide) rfl ?_
  refine ct_iload_n (k := 0) S dJ17_bitCount_48 rfl rfl ?_
  refine ct_bipush (v := 63) S dJ17_bitCount_49 kB_63 ?_
  refine ct_iand S dJ17_bitCount_51 ?_
  exact ct_iret S rfl dJ17_bitCount_52
theorem mt_J17_bitCount {l : Launch} {D : cz_D} {l0 : Int32} {h : cz_H} {oh : cz_O × cz_H} (hz : fn_J17_bitCount l0 h = some oh) : cz_M l D yJ17_bitCount (ws_ yJ17_bitCount cJ17_bitCount 1 ((Option.some Jvm.ClassFile.FieldType.int))) 2 [cz_i l0] h oh := cz_met (plainFor_of_name (by decide)) (Nat.le_of_ble_eq_true rfl) hz (fun K hl S => wk_J17_bitCount S)
/-! HeldCoats.seats()I -/
def dkwX1_seats_0 : List UInt8 := [42, 180, 0, 33, 180, 0, 130, 182, 0, 134, 172]
abbrev dktX1_seats_0 : List UInt8 := dkwX1_seats_0 ++ []
theorem dksX1_seats_0 : cX1_seats.data.toList.drop 0 = dktX1_seats_0 := by decide +kernel
theorem dX1_seats_0 : decode cX1_seats 0 = .ok (.aload_n 0, 1) := dk_42 (dk_at dksX1_seats_0 0 rfl rfl)
theorem dX1_seats_1 : decode cX1_seats 1 = .ok (.getfield 33, 3) := dk_180 0 33 (dk_at dksX1_seats_0 1 rfl rfl)
theorem dX1_seats_4 : decode cX1_seats 4 = .ok (.getfield 130, 3) := dk_180 0 130 (dk_at dksX1_seats_0 4 rfl rfl)
theorem dX1_seats_7 : decode cX1_seats 7 = .ok (.invokevirtual 134, 3) := dk_182 0 134 (dk_at dksX1_seats_0 7 rfl rfl)
theorem dX1_seats_10 : decode cX1_seats 10 = .ok (.ireturn, 1) := dk_172 (dk_at dksX1_seats_0 10 rfl rfl)
theorem fw_X1_130 : cz_FW "HeldCoats" 130 [(1, 6)] "Ljava/util/ArrayList;" := ⟨"HeldCoats$Capital", "seats", Or.inr ⟨_, q223⟩, List.forall_mem_cons.mpr ⟨⟨RX2, TX2, 11, rfl, by decide, rfl, rfl, Or.inl rfl⟩, fun _ h => absurd h List.not_mem_nil⟩, by decide⟩
set_option maxHeartbeats 4000000 in
set_option maxRecDepth 100000 in
noncomputable def fn_X1_seats (l0 : Option Nat) (h : cz_H) : cz_Z := cz_getR h l0 [(0, 3)] (fun r1 => cz_getR h r1 [(1, 6)] (fun r2 => cz_rc h r2 [2] (cz_cI (fn_J2_size r2 h) (fun x10 h9 => some (.inl (some (cz_i x10)), h9)))))
set_option maxHeartbeats 4000000 in
set_option maxRecDepth 100000 in
theorem wk_X1_seats {K : cz_K} {D : cz_D} {h0 : cz_H} {oh : cz_O × cz_H} {l0 : Option Nat} {h : cz_H} (S : cz_S K D h0 cX1_seats 1 "HeldCoats" ((Option.some Jvm.ClassFile.FieldType.int)) "seats" ([])) : cz_T K D 3 h0 oh 1 (fn_X1_seats l0 h) h 0 [(0, cz_r l0)] [] := by
  unfold fn_X1_seats
  refine ct_aload_n (k := 0) S dX1_seats_0 rfl rfl ?_
  refine ct_getR S fw_X1_33 dX1_seats_1 (fun r1 => ?_)
  refine ct_getR S fw_X1_130 dX1_seats_4 (fun r2 => ?_)
  refine ct_rc (fun b3 ci4 V5 hb6 hc7 hi8 => ?_)
  refine ct_cI (st := []) (cg_virtual (av := []) S hb6 hc7 hi8 (fun _ e => mt_J2_size e) md_J2_size q1389 q341 se_java_util_ArrayList_size___I_java_util_ArrayList (by decide) (Nat.le_of_ble_eq_true rfl) rfl dX1_seats_7) (fun x10 h9 => ?_)
  exact ct_iret S rfl dX1_seats_10
theorem mt_X1_seats {l : Launch} {D : cz_D} {l0 : Option Nat} {h : cz_H} {oh : cz_O × cz_H} (hz : fn_X1_seats l0 h = some oh) : cz_M l D yX1_seats (ws_ yX1_seats cX1_seats 1 ((Option.some Jvm.ClassFile.FieldType.int))) 3 [cz_r l0] h oh := cz_met (plainFor_of_name (by decide)) (Nat.le_of_ble_eq_true rfl) hz (fun K hl S => wk_X1_seats S)
/-! HeldCoats.worthOf(I)I -/
def dkwX1_worthOf_6 : List UInt8 := [180, 0, 152, 96, 62, 132, 4, 1, 167, 255, 116, 29, 172]
abbrev dktX1_worthOf_6 : List UInt8 := dkwX1_worthOf_6 ++ []
def dkwX1_worthOf_5 : List UInt8 := [28, 4, 21, 5, 120, 128, 61, 29, 42, 180, 0, 33, 180, 0, 130, 21, 5, 182, 0, 146, 192, 0, 150]
abbrev dktX1_worthOf_5 : List UInt8 := dkwX1_worthOf_5 ++ dktX1_worthOf_6
def dkwX1_worthOf_4 : List UInt8 := [180, 0, 152, 164, 0, 7, 21, 6, 54, 5, 132, 6, 1, 167, 255, 170, 21, 5, 2, 160, 0, 5, 2, 172]
abbrev dktX1_worthOf_4 : List UInt8 := dkwX1_worthOf_4 ++ dktX1_worthOf_5
def dkwX1_worthOf_3 : List UInt8 := [182, 0, 146, 192, 0, 150, 180, 0, 152, 42, 180, 0, 33, 180, 0, 130, 21, 5, 182, 0, 146, 192, 0, 150]
abbrev dktX1_worthOf_3 : List UInt8 := dkwX1_worthOf_3 ++ dktX1_worthOf_4
def dkwX1_worthOf_2 : List UInt8 := [184, 1, 16, 153, 0, 6, 167, 0, 52, 21, 5, 2, 159, 0, 42, 42, 180, 0, 33, 180, 0, 130, 21, 6]
abbrev dktX1_worthOf_2 : List UInt8 := dkwX1_worthOf_2 ++ dktX1_worthOf_3
def dkwX1_worthOf_1 : List UInt8 := [182, 1, 14, 162, 0, 83, 42, 180, 0, 42, 21, 6, 182, 0, 7, 2, 160, 0, 64, 28, 21, 6]
abbrev dktX1_worthOf_1 : List UInt8 := dkwX1_worthOf_1 ++ dktX1_worthOf_2
def dkwX1_worthOf_0 : List UInt8 := [3, 61, 3, 62, 3, 54, 4, 21, 4, 27, 162, 0, 140, 2, 54, 5, 3, 54, 6, 21, 6, 42]
abbrev dktX1_worthOf_0 : List UInt8 := dkwX1_worthOf_0 ++ dktX1_worthOf_1
theorem dksX1_worthOf_0 : cX1_worthOf.data.toList.drop 0 = dktX1_worthOf_0 := by decide +kernel
theorem dksX1_worthOf_1 : cX1_worthOf.data.toList.drop 22 = dktX1_worthOf_1 := dk_seg dksX1_worthOf_0 22 rfl rfl
theorem dksX1_worthOf_2 : cX1_worthOf.data.toList.drop 44 = dktX1_worthOf_2 := dk_seg dksX1_worthOf_1 22 rfl rfl
theorem dksX1_worthOf_3 : cX1_worthOf.data.toList.drop 68 = dktX1_worthOf_3 := dk_seg dksX1_worthOf_2 24 rfl rfl
theorem dksX1_worthOf_4 : cX1_worthOf.data.toList.drop 92 = dktX1_worthOf_4 := dk_seg dksX1_worthOf_3 24 rfl rfl
theorem dksX1_worthOf_5 : cX1_worthOf.data.toList.drop 116 = dktX1_worthOf_5 := dk_seg dksX1_worthOf_4 24 rfl rfl
theorem dksX1_worthOf_6 : cX1_worthOf.data.toList.drop 139 = dktX1_worthOf_6 := dk_seg dksX1_worthOf_5 23 rfl rfl
theorem dX1_worthOf_0 : decode cX1_worthOf 0 = .ok (.iconst 0, 1) := dk_3 (dk_at dksX1_worthOf_0 0 rfl rfl)
theorem dX1_worthOf_1 : decode cX1_worthOf 1 = .ok (.istore_n 2, 1) := dk_61 (dk_at dksX1_worthOf_0 1 rfl rfl)
theorem dX1_worthOf_2 : decode cX1_worthOf 2 = .ok (.iconst 0, 1) := dk_3 (dk_at dksX1_worthOf_0 2 rfl rfl)
theorem dX1_worthOf_3 : decode cX1_worthOf 3 = .ok (.istore_n 3, 1) := dk_62 (dk_at dksX1_worthOf_0 3 rfl rfl)
theorem dX1_worthOf_4 : decode cX1_worthOf 4 = .ok (.iconst 0, 1) := dk_3 (dk_at dksX1_worthOf_0 4 rfl rfl)
theorem dX1_worthOf_5 : decode cX1_worthOf 5 = .ok (.istore 4, 2) := dk_54 4 (dk_at dksX1_worthOf_0 5 rfl rfl)
theorem dX1_worthOf_7 : decode cX1_worthOf 7 = .ok (.iload 4, 2) := dk_21 4 (dk_at dksX1_worthOf_0 7 rfl rfl)
theorem dX1_worthOf_9 : decode cX1_worthOf 9 = .ok (.iload_n 1, 1) := dk_27 (dk_at dksX1_worthOf_0 9 rfl rfl)
theorem dX1_worthOf_10 : decode cX1_worthOf 10 = .ok (.if_icmp .ge 140, 3) := dk_162 0 140 (dk_at dksX1_worthOf_0 10 rfl rfl)
theorem dX1_worthOf_13 : decode cX1_worthOf 13 = .ok (.iconst (-1), 1) := dk_2 (dk_at dksX1_worthOf_0 13 rfl rfl)
theorem dX1_worthOf_14 : decode cX1_worthOf 14 = .ok (.istore 5, 2) := dk_54 5 (dk_at dksX1_worthOf_0 14 rfl rfl)
theorem dX1_worthOf_16 : decode cX1_worthOf 16 = .ok (.iconst 0, 1) := dk_3 (dk_at dksX1_worthOf_0 16 rfl rfl)
theorem dX1_worthOf_17 : decode cX1_worthOf 17 = .ok (.istore 6, 2) := dk_54 6 (dk_at dksX1_worthOf_0 17 rfl rfl)
theorem dX1_worthOf_19 : decode cX1_worthOf 19 = .ok (.iload 6, 2) := dk_21 6 (dk_at dksX1_worthOf_0 19 rfl rfl)
theorem dX1_worthOf_21 : decode cX1_worthOf 21 = .ok (.aload_n 0, 1) := dk_42 (dk_at dksX1_worthOf_0 21 rfl rfl)
theorem dX1_worthOf_22 : decode cX1_worthOf 22 = .ok (.invokevirtual 270, 3) := dk_182 1 14 (dk_at dksX1_worthOf_1 0 rfl rfl)
theorem dX1_worthOf_25 : decode cX1_worthOf 25 = .ok (.if_icmp .ge 83, 3) := dk_162 0 83 (dk_at dksX1_worthOf_1 3 rfl rfl)
theorem dX1_worthOf_28 : decode cX1_worthOf 28 = .ok (.aload_n 0, 1) := dk_42 (dk_at dksX1_worthOf_1 6 rfl rfl)
theorem dX1_worthOf_29 : decode cX1_worthOf 29 = .ok (.getfield 42, 3) := dk_180 0 42 (dk_at dksX1_worthOf_1 7 rfl rfl)
theorem dX1_worthOf_32 : decode cX1_worthOf 32 = .ok (.iload 6, 2) := dk_21 6 (dk_at dksX1_worthOf_1 10 rfl rfl)
theorem dX1_worthOf_34 : decode cX1_worthOf 34 = .ok (.invokevirtual 7, 3) := dk_182 0 7 (dk_at dksX1_worthOf_1 12 rfl rfl)
theorem dX1_worthOf_37 : decode cX1_worthOf 37 = .ok (.iconst (-1), 1) := dk_2 (dk_at dksX1_worthOf_1 15 rfl rfl)
theorem dX1_worthOf_38 : decode cX1_worthOf 38 = .ok (.if_icmp .ne 64, 3) := dk_160 0 64 (dk_at dksX1_worthOf_1 16 rfl rfl)
theorem dX1_worthOf_41 : decode cX1_worthOf 41 = .ok (.iload_n 2, 1) := dk_28 (dk_at dksX1_worthOf_1 19 rfl rfl)
theorem dX1_worthOf_42 : decode cX1_worthOf 42 = .ok (.iload 6, 2) := dk_21 6 (dk_at dksX1_worthOf_1 20 rfl rfl)
theorem dX1_worthOf_44 : decode cX1_worthOf 44 = .ok (.invokestatic 272, 3) := dk_184 1 16 (dk_at dksX1_worthOf_2 0 rfl rfl)
theorem dX1_worthOf_47 : decode cX1_worthOf 47 = .ok (.ifCond .eq 6, 3) := dk_153 0 6 (dk_at dksX1_worthOf_2 3 rfl rfl)
theorem dX1_worthOf_50 : decode cX1_worthOf 50 = .ok (.goto 52, 3) := dk_167 0 52 (dk_at dksX1_worthOf_2 6 rfl rfl)
theorem dX1_worthOf_53 : decode cX1_worthOf 53 = .ok (.iload 5, 2) := dk_21 5 (dk_at dksX1_worthOf_2 9 rfl rfl)
theorem dX1_worthOf_55 : decode cX1_worthOf 55 = .ok (.iconst (-1), 1) := dk_2 (dk_at dksX1_worthOf_2 11 rfl rfl)
theorem dX1_worthOf_56 : decode cX1_worthOf 56 = .ok (.if_icmp .eq 42, 3) := dk_159 0 42 (dk_at dksX1_worthOf_2 12 rfl rfl)
theorem dX1_worthOf_59 : decode cX1_worthOf 59 = .ok (.aload_n 0, 1) := dk_42 (dk_at dksX1_worthOf_2 15 rfl rfl)
theorem dX1_worthOf_60 : decode cX1_worthOf 60 = .ok (.getfield 33, 3) := dk_180 0 33 (dk_at dksX1_worthOf_2 16 rfl rfl)
theorem dX1_worthOf_63 : decode cX1_worthOf 63 = .ok (.getfield 130, 3) := dk_180 0 130 (dk_at dksX1_worthOf_2 19 rfl rfl)
theorem dX1_worthOf_66 : decode cX1_worthOf 66 = .ok (.iload 6, 2) := dk_21 6 (dk_at dksX1_worthOf_2 22 rfl rfl)
theorem dX1_worthOf_68 : decode cX1_worthOf 68 = .ok (.invokevirtual 146, 3) := dk_182 0 146 (dk_at dksX1_worthOf_3 0 rfl rfl)
theorem dX1_worthOf_71 : decode cX1_worthOf 71 = .ok (.checkcast 150, 3) := dk_192 0 150 (dk_at dksX1_worthOf_3 3 rfl rfl)
theorem dX1_worthOf_74 : decode cX1_worthOf 74 = .ok (.getfield 152, 3) := dk_180 0 152 (dk_at dksX1_worthOf_3 6 rfl rfl)
theorem dX1_worthOf_77 : decode cX1_worthOf 77 = .ok (.aload_n 0, 1) := dk_42 (dk_at dksX1_worthOf_3 9 rfl rfl)
theorem dX1_worthOf_78 : decode cX1_worthOf 78 = .ok (.getfield 33, 3) := dk_180 0 33 (dk_at dksX1_worthOf_3 10 rfl rfl)
theorem dX1_worthOf_81 : decode cX1_worthOf 81 = .ok (.getfield 130, 3) := dk_180 0 130 (dk_at dksX1_worthOf_3 13 rfl rfl)
theorem dX1_worthOf_84 : decode cX1_worthOf 84 = .ok (.iload 5, 2) := dk_21 5 (dk_at dksX1_worthOf_3 16 rfl rfl)
theorem dX1_worthOf_86 : decode cX1_worthOf 86 = .ok (.invokevirtual 146, 3) := dk_182 0 146 (dk_at dksX1_worthOf_3 18 rfl rfl)
theorem dX1_worthOf_89 : decode cX1_worthOf 89 = .ok (.checkcast 150, 3) := dk_192 0 150 (dk_at dksX1_worthOf_3 21 rfl rfl)
theorem dX1_worthOf_92 : decode cX1_worthOf 92 = .ok (.getfield 152, 3) := dk_180 0 152 (dk_at dksX1_worthOf_4 0 rfl rfl)
theorem dX1_worthOf_95 : decode cX1_worthOf 95 = .ok (.if_icmp .le 7, 3) := dk_164 0 7 (dk_at dksX1_worthOf_4 3 rfl rfl)
theorem dX1_worthOf_98 : decode cX1_worthOf 98 = .ok (.iload 6, 2) := dk_21 6 (dk_at dksX1_worthOf_4 6 rfl rfl)
theorem dX1_worthOf_100 : decode cX1_worthOf 100 = .ok (.istore 5, 2) := dk_54 5 (dk_at dksX1_worthOf_4 8 rfl rfl)
theorem dX1_worthOf_102 : decode cX1_worthOf 102 = .ok (.iinc 6 1, 3) := dk_132 6 1 (dk_at dksX1_worthOf_4 10 rfl rfl)
theorem dX1_worthOf_105 : decode cX1_worthOf 105 = .ok (.goto (-86), 3) := dk_167 255 170 (dk_at dksX1_worthOf_4 13 rfl rfl)
theorem dX1_worthOf_108 : decode cX1_worthOf 108 = .ok (.iload 5, 2) := dk_21 5 (dk_at dksX1_worthOf_4 16 rfl rfl)
theorem dX1_worthOf_110 : decode cX1_worthOf 110 = .ok (.iconst (-1), 1) := dk_2 (dk_at dksX1_worthOf_4 18 rfl rfl)
theorem dX1_worthOf_111 : decode cX1_worthOf 111 = .ok (.if_icmp .ne 5, 3) := dk_160 0 5 (dk_at dksX1_worthOf_4 19 rfl rfl)
theorem dX1_worthOf_114 : decode cX1_worthOf 114 = .ok (.iconst (-1), 1) := dk_2 (dk_at dksX1_worthOf_4 22 rfl rfl)
theorem dX1_worthOf_115 : decode cX1_worthOf 115 = .ok (.ireturn, 1) := dk_172 (dk_at dksX1_worthOf_4 23 rfl rfl)
theorem dX1_worthOf_116 : decode cX1_worthOf 116 = .ok (.iload_n 2, 1) := dk_28 (dk_at dksX1_worthOf_5 0 rfl rfl)
theorem dX1_worthOf_117 : decode cX1_worthOf 117 = .ok (.iconst 1, 1) := dk_4 (dk_at dksX1_worthOf_5 1 rfl rfl)
theorem dX1_worthOf_118 : decode cX1_worthOf 118 = .ok (.iload 5, 2) := dk_21 5 (dk_at dksX1_worthOf_5 2 rfl rfl)
theorem dX1_worthOf_120 : decode cX1_worthOf 120 = .ok (.ishl, 1) := dk_120 (dk_at dksX1_worthOf_5 4 rfl rfl)
theorem dX1_worthOf_121 : decode cX1_worthOf 121 = .ok (.ior, 1) := dk_128 (dk_at dksX1_worthOf_5 5 rfl rfl)
theorem dX1_worthOf_122 : decode cX1_worthOf 122 = .ok (.istore_n 2, 1) := dk_61 (dk_at dksX1_worthOf_5 6 rfl rfl)
theorem dX1_worthOf_123 : decode cX1_worthOf 123 = .ok (.iload_n 3, 1) := dk_29 (dk_at dksX1_worthOf_5 7 rfl rfl)
theorem dX1_worthOf_124 : decode cX1_worthOf 124 = .ok (.aload_n 0, 1) := dk_42 (dk_at dksX1_worthOf_5 8 rfl rfl)
theorem dX1_worthOf_125 : decode cX1_worthOf 125 = .ok (.getfield 33, 3) := dk_180 0 33 (dk_at dksX1_worthOf_5 9 rfl rfl)
theorem dX1_worthOf_128 : decode cX1_worthOf 128 = .ok (.getfield 130, 3) := dk_180 0 130 (dk_at dksX1_worthOf_5 12 rfl rfl)
theorem dX1_worthOf_131 : decode cX1_worthOf 131 = .ok (.iload 5, 2) := dk_21 5 (dk_at dksX1_worthOf_5 15 rfl rfl)
theorem dX1_worthOf_133 : decode cX1_worthOf 133 = .ok (.invokevirtual 146, 3) := dk_182 0 146 (dk_at dksX1_worthOf_5 17 rfl rfl)
theorem dX1_worthOf_136 : decode cX1_worthOf 136 = .ok (.checkcast 150, 3) := dk_192 0 150 (dk_at dksX1_worthOf_5 20 rfl rfl)
theorem dX1_worthOf_139 : decode cX1_worthOf 139 = .ok (.getfield 152, 3) := dk_180 0 152 (dk_at dksX1_worthOf_6 0 rfl rfl)
theorem dX1_worthOf_142 : decode cX1_worthOf 142 = .ok (.iadd, 1) := dk_96 (dk_at dksX1_worthOf_6 3 rfl rfl)
theorem dX1_worthOf_143 : decode cX1_worthOf 143 = .ok (.istore_n 3, 1) := dk_62 (dk_at dksX1_worthOf_6 4 rfl rfl)
theorem dX1_worthOf_144 : decode cX1_worthOf 144 = .ok (.iinc 4 1, 3) := dk_132 4 1 (dk_at dksX1_worthOf_6 5 rfl rfl)
theorem dX1_worthOf_147 : decode cX1_worthOf 147 = .ok (.goto (-140), 3) := dk_167 255 116 (dk_at dksX1_worthOf_6 8 rfl rfl)
theorem dX1_worthOf_150 : decode cX1_worthOf 150 = .ok (.iload_n 3, 1) := dk_29 (dk_at dksX1_worthOf_6 11 rfl rfl)
theorem dX1_worthOf_151 : decode cX1_worthOf 151 = .ok (.ireturn, 1) := dk_172 (dk_at dksX1_worthOf_6 12 rfl rfl)
theorem se_HeldCoats_seats___I_HeldCoats : ∀ c ∈ ([0] : List Nat), ∃ q : vw_C, cz_cl[c]? = some q ∧ Cond.selects q.1 (⟨"HeldCoats", "seats", "()I"⟩ : MethodName) (⟨"HeldCoats", "seats", "()I"⟩ : MethodName) ∈ lw_all := List.forall_mem_cons.mpr ⟨⟨_, cz_cl0, qs23⟩, fun _ h => absurd h List.not_mem_nil⟩
theorem md_X1_seats : cz_md yX1_seats 1 (ws_ yX1_seats cX1_seats 1 ((Option.some Jvm.ClassFile.FieldType.int))) 0 := ⟨cz_ws_code q1388, q113, ⟨by decide, by decide, by decide +kernel⟩, by decide⟩
set_option maxHeartbeats 4000000 in
set_option maxRecDepth 100000 in
noncomputable def fn_X1_worthOf_19 (l0 : Option Nat) (l2 : Int32) (k0 : Int32 → cz_H → cz_Z) : Nat → Int32 → Int32 → cz_H → cz_Z
  | 0, _, _, _ => none
  | n + 1, l5, l6, h => cz_rc h l0 [0] (cz_cI (fn_X1_seats l0 h) (fun x8 h7 => (if x8 ≤ l6 then k0 l5 h7 else cz_getR h7 l0 [(0, 4)] (fun r9 => cz_rc h7 r9 [3] (cz_cI (fn_X3_on r9 l6 h7) (fun x17 h16 => (if x17 = (-1) then cz_cI (fn_X1_isOf l2 l6 h16) (fun x20 h19 => (if x20 = 0 then (if l5 = (-1) then cz_leti (l6 + 1) (fun x21 => fn_X1_worthOf_19 l0 l2 k0 n l6 x21 h19) else cz_getR h19 l0 [(0, 3)] (fun r22 => cz_getR h19 r22 [(1, 6)] (fun r23 => cz_rc h19 r23 [2] (cz_cR (fn_J2_get r23 l6 h19) (fun r31 h30 => cz_cast h30 r31 [10] (cz_getI h30 r31 [(10, 1)] (fun x32 => cz_getR h30 l0 [(0, 3)] (fun r33 => cz_getR h30 r33 [(1, 6)] (fun r34 => cz_rc h30 r34 [2] (cz_cR (fn_J2_get r34 l5 h30) (fun r42 h41 => cz_cast h41 r42 [10] (cz_getI h41 r42 [(10, 1)] (fun x43 => (if x32 ≤ x43 then cz_leti (l6 + 1) (fun x44 => fn_X1_worthOf_19 l0 l2 k0 n l5 x44 h41) else cz_leti (l6 + 1) (fun x45 => fn_X1_worthOf_19 l0 l2 k0 n l6 x45 h41))))))))))))))) else cz_leti (l6 + 1) (fun x46 => fn_X1_worthOf_19 l0 l2 k0 n l5 x46 h19))) else cz_leti (l6 + 1) (fun x18 => fn_X1_worthOf_19 l0 l2 k0 n l5 x18 h16))))))))
set_option maxHeartbeats 4000000 in
set_option maxRecDepth 100000 in
theorem wk_X1_worthOf_19 {K : cz_K} {D : cz_D} {h0 : cz_H} {oh : cz_O × cz_H} {l0 : Option Nat} {l2 : Int32} {l1 : Int32} {l3 : Int32} {l4 : Int32} {k0 : Int32 → cz_H → cz_Z} (S : cz_S K D h0 cX1_worthOf 7 "HeldCoats" ((Option.some Jvm.ClassFile.FieldType.int)) "worthOf" ([])) (hk0 : ∀ (e5 : Int32) (h : cz_H), cz_T K D 5 h0 oh 7 (k0 e5 h) h 108 [(0, cz_r l0), (1, cz_i l1), (2, cz_i l2), (3, cz_i l3), (4, cz_i l4), (5, cz_i e5)] []) : ∀ (n : Nat) (l5 : Int32) (l6 : Int32) (h : cz_H), cz_T K D 5 h0 oh 7 (fn_X1_worthOf_19 l0 l2 k0 n l5 l6 h) h 19 [(0, cz_r l0), (1, cz_i l1), (2, cz_i l2), (3, cz_i l3), (4, cz_i l4), (5, cz_i l5), (6, cz_i l6)] [] := by
  intro n
  induction n with
  | zero => intros; exact ct_none
  | succ n ih =>
    intro l5 l6 h
    rw [fn_X1_worthOf_19]
    refine ct_iload (k := 6) S dX1_worthOf_19 rfl ?_
    refine ct_aload_n (k := 0) S dX1_worthOf_21 rfl rfl ?_
    refine ct_rc (fun b1 ci2 V3 hb4 hc5 hi6 => ?_)
    refine ct_cI (st := [cz_i l6]) (cg_virtual (av := []) S hb4 hc5 hi6 (fun _ e => mt_X1_seats e) md_X1_seats q1385 q1387 se_HeldCoats_seats___I_HeldCoats (by decide) (Nat.le_of_ble_eq_true rfl) rfl dX1_worthOf_22) (fun x8 h7 => ?_)
    refine ct_icmp_ge (tgt := 108) S dX1_worthOf_25 (by decide) ?_ ?_
    · exact ct_sub [0, 1, 2, 3, 4, 5] rfl (hk0 l5 h7)
    · refine ct_aload_n (k := 0) S dX1_worthOf_28 rfl rfl ?_
      refine ct_getR S fw_X1_42 dX1_worthOf_29 (fun r9 => ?_)
      refine ct_iload (k := 6) S dX1_worthOf_32 rfl ?_
      refine ct_rc (fun b10 ci11 V12 hb13 hc14 hi15 => ?_)
      refine ct_cI (st := []) (cg_virtual (av := [cz_i l6]) S hb13 hc14 hi15 (fun _ e => mt_X3_on e) md_X3_on q1094 q1095 se_HeldCoats_Reign_on__I_I_HeldCoats_Reign (by decide) (Nat.le_of_ble_eq_true rfl) rfl dX1_worthOf_34) (fun x17 h16 => ?_)
      refine ct_iconst (v := (-1)) S dX1_worthOf_37 kI_m1 ?_
      refine ct_icmp_ne (tgt := 102) S dX1_worthOf_38 (by decide) ?_ ?_
      · refine ct_iincL (j := 6) (L2 := fun x18 => [(6, cz_i x18), (0, cz_r l0), (1, cz_i l1), (2, cz_i l2), (3, cz_i l3), (4, cz_i l4), (5, cz_i l5)]) S dX1_worthOf_102 rfl kI_1 (by decide) (fun _ => rfl) (fun x18 => ?_)
        refine ct_goto (tgt := 19) S dX1_worthOf_105 (by decide) ?_
        exact ct_sub [1, 2, 3, 4, 5, 6, 0] rfl (ih l5 x18 h16)
      · refine ct_iload_n (k := 2) S dX1_worthOf_41 rfl rfl ?_
        refine ct_iload (k := 6) S dX1_worthOf_42 rfl ?_
        refine ct_cI (st := []) (cg_static (av := [cz_i l2, cz_i l6]) S (fun _ e => mt_X1_isOf e) md_X1_isOf (Or.inl q1390) q1059 (by decide) (Nat.le_of_ble_eq_true rfl) rfl dX1_worthOf_44) (fun x20 h19 => ?_)
        refine ct_if_eq (tgt := 53) S dX1_worthOf_47 (by decide) ?_ ?_
        · refine ct_iload (k := 5) S dX1_worthOf_53 rfl ?_
          refine ct_iconst (v := (-1)) S dX1_worthOf_55 kI_m1 ?_
          refine ct_icmp_eq (tgt := 98) S dX1_worthOf_56 (by decide) ?_ ?_
          · refine ct_iload (k := 6) S dX1_worthOf_98 rfl ?_
            refine ct_istore (L' := [(5, cz_i l6), (0, cz_r l0), (1, cz_i l1), (2, cz_i l2), (3, cz_i l3), (4, cz_i l4), (6, cz_i l6)]) S dX1_worthOf_100 (by decide) rfl ?_
            refine ct_iincL (j := 6) (L2 := fun x21 => [(6, cz_i x21), (5, cz_i l6), (0, cz_r l0), (1, cz_i l1), (2, cz_i l2), (3, cz_i l3), (4, cz_i l4)]) S dX1_worthOf_102 rfl kI_1 (by decide) (fun _ => rfl) (fun x21 => ?_)
            refine ct_goto (tgt := 19) S dX1_worthOf_105 (by decide) ?_
            exact ct_sub [2, 3, 4, 5, 6, 1, 0] rfl (ih l6 x21 h19)
          · refine ct_aload_n (k := 0) S dX1_worthOf_59 rfl rfl ?_
            refine ct_getR S fw_X1_33 dX1_worthOf_60 (fun r22 => ?_)
            refine ct_getR S fw_X1_130 dX1_worthOf_63 (fun r23 => ?_)
            refine ct_iload (k := 6) S dX1_worthOf_66 rfl ?_
            refine ct_rc (fun b24 ci25 V26 hb27 hc28 hi29 => ?_)
            refine ct_cR (st := []) (cg_virtual (av := [cz_i l6]) S hb27 hc28 hi29 (fun _ e => mt_J2_get e) md_J2_get q1092 q345 se_java_util_ArrayList_get__I_Ljava_lang_Object__java_util_ArrayList (by decide) (Nat.le_of_ble_eq_true rfl) rfl dX1_worthOf_68) (fun r31 h30 => ?_)
            refine ct_cast S q1093 ca_HeldCoats_Told dX1_worthOf_71 ?_
            refine ct_getI S fw_X1_152 dX1_worthOf_74 (fun x32 => ?_)
            refine ct_aload_n (k := 0) S dX1_worthOf_77 rfl rfl ?_
            refine ct_getR S fw_X1_33 dX1_worthOf_78 (fun r33 => ?_)
            refine ct_getR S fw_X1_130 dX1_worthOf_81 (fun r34 => ?_)
            refine ct_iload (k := 5) S dX1_worthOf_84 rfl ?_
            refine ct_rc (fun b35 ci36 V37 hb38 hc39 hi40 => ?_)
            refine ct_cR (st := [cz_i x32]) (cg_virtual (av := [cz_i l5]) S hb38 hc39 hi40 (fun _ e => mt_J2_get e) md_J2_get q1092 q345 se_java_util_ArrayList_get__I_Ljava_lang_Object__java_util_ArrayList (by decide) (Nat.le_of_ble_eq_true rfl) rfl dX1_worthOf_86) (fun r42 h41 => ?_)
            refine ct_cast S q1093 ca_HeldCoats_Told dX1_worthOf_89 ?_
            refine ct_getI S fw_X1_152 dX1_worthOf_92 (fun x43 => ?_)
            refine ct_icmp_le (tgt := 102) S dX1_worthOf_95 (by decide) ?_ ?_
            · refine ct_iincL (j := 6) (L2 := fun x44 => [(6, cz_i x44), (0, cz_r l0), (1, cz_i l1), (2, cz_i l2), (3, cz_i l3), (4, cz_i l4), (5, cz_i l5)]) S dX1_worthOf_102 rfl kI_1 (by decide) (fun _ => rfl) (fun x44 => ?_)
              refine ct_goto (tgt := 19) S dX1_worthOf_105 (by decide) ?_
              exact ct_sub [1, 2, 3, 4, 5, 6, 0] rfl (ih l5 x44 h41)
            · refine ct_iload (k := 6) S dX1_worthOf_98 rfl ?_
              refine ct_istore (L' := [(5, cz_i l6), (0, cz_r l0), (1, cz_i l1), (2, cz_i l2), (3, cz_i l3), (4, cz_i l4), (6, cz_i l6)]) S dX1_worthOf_100 (by decide) rfl ?_
              refine ct_iincL (j := 6) (L2 := fun x45 => [(6, cz_i x45), (5, cz_i l6), (0, cz_r l0), (1, cz_i l1), (2, cz_i l2), (3, cz_i l3), (4, cz_i l4)]) S dX1_worthOf_102 rfl kI_1 (by decide) (fun _ => rfl) (fun x45 => ?_)
              refine ct_goto (tgt := 19) S dX1_worthOf_105 (by decide) ?_
              exact ct_sub [2, 3, 4, 5, 6, 1, 0] rfl (ih l6 x45 h41)
        · refine ct_goto (tgt := 102) S dX1_worthOf_50 (by decide) ?_
          refine ct_iincL (j := 6) (L2 := fun x46 => [(6, cz_i x46), (0, cz_r l0), (1, cz_i l1), (2, cz_i l2), (3, cz_i l3), (4, cz_i l4), (5, cz_i l5)]) S dX1_worthOf_102 rfl kI_1 (by decide) (fun _ => rfl) (fun x46 => ?_)
          refine ct_goto (tgt := 19) S dX1_worthOf_105 (by decide) ?_
          exact ct_sub [1, 2, 3, 4, 5, 6, 0] rfl (ih l5 x46 h19)
set_option maxHeartbeats 4000000 in
set_option maxRecDepth 100000 in
noncomputable def fn_X1_worthOf_7 (l0 : Option Nat) (l1 : Int32) (k0 : cz_H → cz_Z) (k1 : Int32 → cz_H → cz_Z) : Nat → Int32 → Int32 → Int32 → cz_H → cz_Z
  | 0, _, _, _, _ => none
  | n + 1, l2, l3, l4, h => (if l1 ≤ l4 then k1 l3 h else fn_X1_worthOf_19 l0 l2 (fun (e47 : Int32) (h48 : cz_H) => (if e47 = (-1) then k0 h48 else cz_leti (l2 ||| ((1 : Int32) <<< (e47 &&& 31))) (fun x49 => cz_getR h48 l0 [(0, 3)] (fun r50 => cz_getR h48 r50 [(1, 6)] (fun r51 => cz_rc h48 r51 [2] (cz_cR (fn_J2_get r51 e47 h48) (fun r59 h58 => cz_cast h58 r59 [10] (cz_getI h58 r59 [(10, 1)] (fun x60 => cz_leti (l3 + x60) (fun x61 => cz_leti (l4 + 1) (fun x62 => fn_X1_worthOf_7 l0 l1 k0 k1 n x49 x61 x62 h58))))))))))) 1000 (-1) 0 h)
set_option maxHeartbeats 4000000 in
set_option maxRecDepth 100000 in
theorem wk_X1_worthOf_7 {K : cz_K} {D : cz_D} {h0 : cz_H} {oh : cz_O × cz_H} {l0 : Option Nat} {l1 : Int32} {k0 : cz_H → cz_Z} {k1 : Int32 → cz_H → cz_Z} (S : cz_S K D h0 cX1_worthOf 7 "HeldCoats" ((Option.some Jvm.ClassFile.FieldType.int)) "worthOf" ([])) (hk0 : ∀ (h : cz_H), cz_T K D 5 h0 oh 7 (k0 h) h 114 [] []) (hk1 : ∀ (e3 : Int32) (h : cz_H), cz_T K D 5 h0 oh 7 (k1 e3 h) h 150 [(3, cz_i e3)] []) : ∀ (n : Nat) (l2 : Int32) (l3 : Int32) (l4 : Int32) (h : cz_H), cz_T K D 5 h0 oh 7 (fn_X1_worthOf_7 l0 l1 k0 k1 n l2 l3 l4 h) h 7 [(0, cz_r l0), (1, cz_i l1), (2, cz_i l2), (3, cz_i l3), (4, cz_i l4)] [] := by
  intro n
  induction n with
  | zero => intros; exact ct_none
  | succ n ih =>
    intro l2 l3 l4 h
    rw [fn_X1_worthOf_7]
    refine ct_iload (k := 4) S dX1_worthOf_7 rfl ?_
    refine ct_iload_n (k := 1) S dX1_worthOf_9 rfl rfl ?_
    refine ct_icmp_ge (tgt := 150) S dX1_worthOf_10 (by decide) ?_ ?_
    · exact ct_sub [3] rfl (hk1 l3 h)
    · refine ct_iconst (v := (-1)) S dX1_worthOf_13 kI_m1 ?_
      refine ct_istore (L' := [(5, cz_i (-1)), (0, cz_r l0), (1, cz_i l1), (2, cz_i l2), (3, cz_i l3), (4, cz_i l4)]) S dX1_worthOf_14 (by decide) rfl ?_
      refine ct_iconst (v := 0) S dX1_worthOf_16 kI_0 ?_
      refine ct_istore (L' := [(6, cz_i 0), (5, cz_i (-1)), (0, cz_r l0), (1, cz_i l1), (2, cz_i l2), (3, cz_i l3), (4, cz_i l4)]) S dX1_worthOf_17 (by decide) rfl ?_
      refine ct_sub [2, 3, 4, 5, 6, 1, 0] (L' := [(0, cz_r l0), (1, cz_i l1), (2, cz_i l2), (3, cz_i l3), (4, cz_i l4), (5, cz_i (-1)), (6, cz_i 0)]) rfl (wk_X1_worthOf_19 S ?_ 1000 (-1) 0 h)
      · intro e47 h48
        refine ct_iload (k := 5) S dX1_worthOf_108 rfl ?_
        refine ct_iconst (v := (-1)) S dX1_worthOf_110 kI_m1 ?_
        refine ct_icmp_ne (tgt := 116) S dX1_worthOf_111 (by decide) ?_ ?_
        · refine ct_iload_n (k := 2) S dX1_worthOf_116 rfl rfl ?_
          refine ct_iconst (v := 1) S dX1_worthOf_117 kI_1 ?_
          refine ct_iload (k := 5) S dX1_worthOf_118 rfl ?_
          refine ct_ishl S dX1_worthOf_120 ?_
          refine ct_ior S dX1_worthOf_121 ?_
          refine ct_leti (fun x49 => ?_)
          refine ct_istore_n (L' := [(2, cz_i x49), (0, cz_r l0), (1, cz_i l1), (3, cz_i l3), (4, cz_i l4), (5, cz_i e47)]) S dX1_worthOf_122 rfl (by decide) rfl ?_
          refine ct_iload_n (k := 3) S dX1_worthOf_123 rfl rfl ?_
          refine ct_aload_n (k := 1) S dX1_worthOf_124 rfl rfl ?_
          refine ct_getR S fw_X1_33 dX1_worthOf_125 (fun r50 => ?_)
          refine ct_getR S fw_X1_130 dX1_worthOf_128 (fun r51 => ?_)
          refine ct_iload (k := 5) S dX1_worthOf_131 rfl ?_
          refine ct_rc (fun b52 ci53 V54 hb55 hc56 hi57 => ?_)
          refine ct_cR (st := [cz_i l3]) (cg_virtual (av := [cz_i e47]) S hb55 hc56 hi57 (fun _ e => mt_J2_get e) md_J2_get q1092 q345 se_java_util_ArrayList_get__I_Ljava_lang_Object__java_util_ArrayList (by decide) (Nat.le_of_ble_eq_true rfl) rfl dX1_worthOf_133) (fun r59 h58 => ?_)
          refine ct_cast S q1093 ca_HeldCoats_Told dX1_worthOf_136 ?_
          refine ct_getI S fw_X1_152 dX1_worthOf_139 (fun x60 => ?_)
          refine ct_iadd S dX1_worthOf_142 ?_
          refine ct_leti (fun x61 => ?_)
          refine ct_istore_n (L' := [(3, cz_i x61), (2, cz_i x49), (0, cz_r l0), (1, cz_i l1), (4, cz_i l4), (5, cz_i e47)]) S dX1_worthOf_143 rfl (by decide) rfl ?_
          refine ct_iincL (j := 4) (L2 := fun x62 => [(4, cz_i x62), (3, cz_i x61), (2, cz_i x49), (0, cz_r l0), (1, cz_i l1), (5, cz_i e47)]) S dX1_worthOf_144 rfl kI_1 (by decide) (fun _ => rfl) (fun x62 => ?_)
          refine ct_goto (tgt := 7) S dX1_worthOf_147 (by decide) ?_
          exact ct_sub [3, 4, 2, 1, 0] rfl (ih x49 x61 x62 h58)
        · exact ct_sub [] rfl (hk0 h48)
set_option maxHeartbeats 4000000 in
set_option maxRecDepth 100000 in
noncomputable def fn_X1_worthOf (l0 : Option Nat) (l1 : Int32) (h : cz_H) : cz_Z := fn_X1_worthOf_7 l0 l1 (fun (h63 : cz_H) => some (.inl (some (cz_i (-1))), h63)) (fun (e64 : Int32) (h65 : cz_H) => some (.inl (some (cz_i e64)), h65)) 1000 0 0 0 h
set_option maxHeartbeats 4000000 in
set_option maxRecDepth 100000 in
theorem wk_X1_worthOf {K : cz_K} {D : cz_D} {h0 : cz_H} {oh : cz_O × cz_H} {l0 : Option Nat} {l1 : Int32} {h : cz_H} (S : cz_S K D h0 cX1_worthOf 7 "HeldCoats" ((Option.some Jvm.ClassFile.FieldType.int)) "worthOf" ([])) : cz_T K D 5 h0 oh 7 (fn_X1_worthOf l0 l1 h) h 0 [(0, cz_r l0), (1, cz_i l1)] [] := by
  unfold fn_X1_worthOf
  refine ct_iconst (v := 0) S dX1_worthOf_0 kI_0 ?_
  refine ct_istore_n (L' := [(2, cz_i 0), (0, cz_r l0), (1, cz_i l1)]) S dX1_worthOf_1 rfl (by decide) rfl ?_
  refine ct_iconst (v := 0) S dX1_worthOf_2 kI_0 ?_
  refine ct_istore_n (L' := [(3, cz_i 0), (2, cz_i 0), (0, cz_r l0), (1, cz_i l1)]) S dX1_worthOf_3 rfl (by decide) rfl ?_
  refine ct_iconst (v := 0) S dX1_worthOf_4 kI_0 ?_
  refine ct_istore (L' := [(4, cz_i 0), (3, cz_i 0), (2, cz_i 0), (0, cz_r l0), (1, cz_i l1)]) S dX1_worthOf_5 (by decide) rfl ?_
  refine ct_sub [3, 4, 2, 1, 0] (L' := [(0, cz_r l0), (1, cz_i l1), (2, cz_i 0), (3, cz_i 0), (4, cz_i 0)]) rfl (wk_X1_worthOf_7 S ?_ ?_ 1000 0 0 0 h)
  · intro h63
    refine ct_iconst (v := (-1)) S dX1_worthOf_114 kI_m1 ?_
    exact ct_iret S rfl dX1_worthOf_115
  · intro e64 h65
    refine ct_iload_n (k := 0) S dX1_worthOf_150 rfl rfl ?_
    exact ct_iret S rfl dX1_worthOf_151
theorem mt_X1_worthOf {l : Launch} {D : cz_D} {l0 : Option Nat} {l1 : Int32} {h : cz_H} {oh : cz_O × cz_H} (hz : fn_X1_worthOf l0 l1 h = some oh) : cz_M l D yX1_worthOf (ws_ yX1_worthOf cX1_worthOf 7 ((Option.some Jvm.ClassFile.FieldType.int))) 5 [cz_r l0, cz_i l1] h oh := cz_met (plainFor_of_name (by decide)) (Nat.le_of_ble_eq_true rfl) hz (fun K hl S => wk_X1_worthOf S)
/-! HeldCoats.best(II)I -/
def dkwX1_best_6 : List UInt8 := [172, 42, 21, 6, 181, 0, 53, 21, 5, 172]
abbrev dktX1_best_6 : List UInt8 := dkwX1_best_6 ++ []
def dkwX1_best_5 : List UInt8 := [167, 0, 11, 21, 8, 54, 5, 21, 7, 54, 6, 132, 7, 1, 167, 255, 176, 21, 5, 2, 160, 0, 5, 2]
abbrev dktX1_best_5 : List UInt8 := dkwX1_best_5 ++ dktX1_best_6
def dkwX1_best_4 : List UInt8 := [164, 0, 6, 167, 0, 32, 42, 21, 7, 184, 1, 23, 182, 1, 28, 54, 8, 21, 8, 21, 5, 163, 0, 6]
abbrev dktX1_best_4 : List UInt8 := dkwX1_best_4 ++ dktX1_best_5
def dkwX1_best_3 : List UInt8 := [180, 0, 42, 27, 29, 21, 7, 2, 130, 126, 42, 180, 0, 42, 180, 0, 15, 182, 0, 173, 184, 1, 20, 28]
abbrev dktX1_best_3 : List UInt8 := dkwX1_best_3 ++ dktX1_best_4
def dkwX1_best_2 : List UInt8 := [54, 6, 3, 54, 7, 21, 7, 21, 4, 163, 0, 79, 21, 7, 21, 4, 2, 130, 126, 154, 0, 63, 42]
abbrev dktX1_best_2 : List UInt8 := dkwX1_best_2 ++ dktX1_best_3
def dkwX1_best_1 : List UInt8 := [180, 0, 42, 27, 182, 0, 170, 62, 29, 42, 180, 0, 33, 27, 182, 0, 189, 126, 54, 4, 2, 54, 5, 2]
abbrev dktX1_best_1 : List UInt8 := dkwX1_best_1 ++ dktX1_best_2
def dkwX1_best_0 : List UInt8 := [42, 27, 182, 0, 129, 153, 0, 14, 28, 3, 17, 3, 231, 184, 0, 162, 154, 0, 5, 2, 172, 42]
abbrev dktX1_best_0 : List UInt8 := dkwX1_best_0 ++ dktX1_best_1
theorem dksX1_best_0 : cX1_best.data.toList.drop 0 = dktX1_best_0 := by decide +kernel
theorem dksX1_best_1 : cX1_best.data.toList.drop 22 = dktX1_best_1 := dk_seg dksX1_best_0 22 rfl rfl
theorem dksX1_best_2 : cX1_best.data.toList.drop 46 = dktX1_best_2 := dk_seg dksX1_best_1 24 rfl rfl
theorem dksX1_best_3 : cX1_best.data.toList.drop 69 = dktX1_best_3 := dk_seg dksX1_best_2 23 rfl rfl
theorem dksX1_best_4 : cX1_best.data.toList.drop 93 = dktX1_best_4 := dk_seg dksX1_best_3 24 rfl rfl
theorem dksX1_best_5 : cX1_best.data.toList.drop 117 = dktX1_best_5 := dk_seg dksX1_best_4 24 rfl rfl
theorem dksX1_best_6 : cX1_best.data.toList.drop 141 = dktX1_best_6 := dk_seg dksX1_best_5 24 rfl rfl
theorem dX1_best_0 : decode cX1_best 0 = .ok (.aload_n 0, 1) := dk_42 (dk_at dksX1_best_0 0 rfl rfl)
theorem dX1_best_1 : decode cX1_best 1 = .ok (.iload_n 1, 1) := dk_27 (dk_at dksX1_best_0 1 rfl rfl)
theorem dX1_best_2 : decode cX1_best 2 = .ok (.invokevirtual 129, 3) := dk_182 0 129 (dk_at dksX1_best_0 2 rfl rfl)
theorem dX1_best_5 : decode cX1_best 5 = .ok (.ifCond .eq 14, 3) := dk_153 0 14 (dk_at dksX1_best_0 5 rfl rfl)
theorem dX1_best_8 : decode cX1_best 8 = .ok (.iload_n 2, 1) := dk_28 (dk_at dksX1_best_0 8 rfl rfl)
theorem dX1_best_9 : decode cX1_best 9 = .ok (.iconst 0, 1) := dk_3 (dk_at dksX1_best_0 9 rfl rfl)
theorem dX1_best_10 : decode cX1_best 10 = .ok (.sipush 999, 3) := dk_17 3 231 (dk_at dksX1_best_0 10 rfl rfl)
theorem dX1_best_13 : decode cX1_best 13 = .ok (.invokestatic 162, 3) := dk_184 0 162 (dk_at dksX1_best_0 13 rfl rfl)
theorem dX1_best_16 : decode cX1_best 16 = .ok (.ifCond .ne 5, 3) := dk_154 0 5 (dk_at dksX1_best_0 16 rfl rfl)
theorem dX1_best_19 : decode cX1_best 19 = .ok (.iconst (-1), 1) := dk_2 (dk_at dksX1_best_0 19 rfl rfl)
theorem dX1_best_20 : decode cX1_best 20 = .ok (.ireturn, 1) := dk_172 (dk_at dksX1_best_0 20 rfl rfl)
theorem dX1_best_21 : decode cX1_best 21 = .ok (.aload_n 0, 1) := dk_42 (dk_at dksX1_best_0 21 rfl rfl)
theorem dX1_best_22 : decode cX1_best 22 = .ok (.getfield 42, 3) := dk_180 0 42 (dk_at dksX1_best_1 0 rfl rfl)
theorem dX1_best_25 : decode cX1_best 25 = .ok (.iload_n 1, 1) := dk_27 (dk_at dksX1_best_1 3 rfl rfl)
theorem dX1_best_26 : decode cX1_best 26 = .ok (.invokevirtual 170, 3) := dk_182 0 170 (dk_at dksX1_best_1 4 rfl rfl)
theorem dX1_best_29 : decode cX1_best 29 = .ok (.istore_n 3, 1) := dk_62 (dk_at dksX1_best_1 7 rfl rfl)
theorem dX1_best_30 : decode cX1_best 30 = .ok (.iload_n 3, 1) := dk_29 (dk_at dksX1_best_1 8 rfl rfl)
theorem dX1_best_31 : decode cX1_best 31 = .ok (.aload_n 0, 1) := dk_42 (dk_at dksX1_best_1 9 rfl rfl)
theorem dX1_best_32 : decode cX1_best 32 = .ok (.getfield 33, 3) := dk_180 0 33 (dk_at dksX1_best_1 10 rfl rfl)
theorem dX1_best_35 : decode cX1_best 35 = .ok (.iload_n 1, 1) := dk_27 (dk_at dksX1_best_1 13 rfl rfl)
theorem dX1_best_36 : decode cX1_best 36 = .ok (.invokevirtual 189, 3) := dk_182 0 189 (dk_at dksX1_best_1 14 rfl rfl)
theorem dX1_best_39 : decode cX1_best 39 = .ok (.iand, 1) := dk_126 (dk_at dksX1_best_1 17 rfl rfl)
theorem dX1_best_40 : decode cX1_best 40 = .ok (.istore 4, 2) := dk_54 4 (dk_at dksX1_best_1 18 rfl rfl)
theorem dX1_best_42 : decode cX1_best 42 = .ok (.iconst (-1), 1) := dk_2 (dk_at dksX1_best_1 20 rfl rfl)
theorem dX1_best_43 : decode cX1_best 43 = .ok (.istore 5, 2) := dk_54 5 (dk_at dksX1_best_1 21 rfl rfl)
theorem dX1_best_45 : decode cX1_best 45 = .ok (.iconst (-1), 1) := dk_2 (dk_at dksX1_best_1 23 rfl rfl)
theorem dX1_best_46 : decode cX1_best 46 = .ok (.istore 6, 2) := dk_54 6 (dk_at dksX1_best_2 0 rfl rfl)
theorem dX1_best_48 : decode cX1_best 48 = .ok (.iconst 0, 1) := dk_3 (dk_at dksX1_best_2 2 rfl rfl)
theorem dX1_best_49 : decode cX1_best 49 = .ok (.istore 7, 2) := dk_54 7 (dk_at dksX1_best_2 3 rfl rfl)
theorem dX1_best_51 : decode cX1_best 51 = .ok (.iload 7, 2) := dk_21 7 (dk_at dksX1_best_2 5 rfl rfl)
theorem dX1_best_53 : decode cX1_best 53 = .ok (.iload 4, 2) := dk_21 4 (dk_at dksX1_best_2 7 rfl rfl)
theorem dX1_best_55 : decode cX1_best 55 = .ok (.if_icmp .gt 79, 3) := dk_163 0 79 (dk_at dksX1_best_2 9 rfl rfl)
theorem dX1_best_58 : decode cX1_best 58 = .ok (.iload 7, 2) := dk_21 7 (dk_at dksX1_best_2 12 rfl rfl)
theorem dX1_best_60 : decode cX1_best 60 = .ok (.iload 4, 2) := dk_21 4 (dk_at dksX1_best_2 14 rfl rfl)
theorem dX1_best_62 : decode cX1_best 62 = .ok (.iconst (-1), 1) := dk_2 (dk_at dksX1_best_2 16 rfl rfl)
theorem dX1_best_63 : decode cX1_best 63 = .ok (.ixor, 1) := dk_130 (dk_at dksX1_best_2 17 rfl rfl)
theorem dX1_best_64 : decode cX1_best 64 = .ok (.iand, 1) := dk_126 (dk_at dksX1_best_2 18 rfl rfl)
theorem dX1_best_65 : decode cX1_best 65 = .ok (.ifCond .ne 63, 3) := dk_154 0 63 (dk_at dksX1_best_2 19 rfl rfl)
theorem dX1_best_68 : decode cX1_best 68 = .ok (.aload_n 0, 1) := dk_42 (dk_at dksX1_best_2 22 rfl rfl)
theorem dX1_best_69 : decode cX1_best 69 = .ok (.getfield 42, 3) := dk_180 0 42 (dk_at dksX1_best_3 0 rfl rfl)
theorem dX1_best_72 : decode cX1_best 72 = .ok (.iload_n 1, 1) := dk_27 (dk_at dksX1_best_3 3 rfl rfl)
theorem dX1_best_73 : decode cX1_best 73 = .ok (.iload_n 3, 1) := dk_29 (dk_at dksX1_best_3 4 rfl rfl)
theorem dX1_best_74 : decode cX1_best 74 = .ok (.iload 7, 2) := dk_21 7 (dk_at dksX1_best_3 5 rfl rfl)
theorem dX1_best_76 : decode cX1_best 76 = .ok (.iconst (-1), 1) := dk_2 (dk_at dksX1_best_3 7 rfl rfl)
theorem dX1_best_77 : decode cX1_best 77 = .ok (.ixor, 1) := dk_130 (dk_at dksX1_best_3 8 rfl rfl)
theorem dX1_best_78 : decode cX1_best 78 = .ok (.iand, 1) := dk_126 (dk_at dksX1_best_3 9 rfl rfl)
theorem dX1_best_79 : decode cX1_best 79 = .ok (.aload_n 0, 1) := dk_42 (dk_at dksX1_best_3 10 rfl rfl)
theorem dX1_best_80 : decode cX1_best 80 = .ok (.getfield 42, 3) := dk_180 0 42 (dk_at dksX1_best_3 11 rfl rfl)
theorem dX1_best_83 : decode cX1_best 83 = .ok (.getfield 15, 3) := dk_180 0 15 (dk_at dksX1_best_3 14 rfl rfl)
theorem dX1_best_86 : decode cX1_best 86 = .ok (.invokevirtual 173, 3) := dk_182 0 173 (dk_at dksX1_best_3 17 rfl rfl)
theorem dX1_best_89 : decode cX1_best 89 = .ok (.invokestatic 276, 3) := dk_184 1 20 (dk_at dksX1_best_3 20 rfl rfl)
theorem dX1_best_92 : decode cX1_best 92 = .ok (.iload_n 2, 1) := dk_28 (dk_at dksX1_best_3 23 rfl rfl)
theorem dX1_best_93 : decode cX1_best 93 = .ok (.if_icmp .le 6, 3) := dk_164 0 6 (dk_at dksX1_best_4 0 rfl rfl)
theorem dX1_best_96 : decode cX1_best 96 = .ok (.goto 32, 3) := dk_167 0 32 (dk_at dksX1_best_4 3 rfl rfl)
theorem dX1_best_99 : decode cX1_best 99 = .ok (.aload_n 0, 1) := dk_42 (dk_at dksX1_best_4 6 rfl rfl)
theorem dX1_best_100 : decode cX1_best 100 = .ok (.iload 7, 2) := dk_21 7 (dk_at dksX1_best_4 7 rfl rfl)
theorem dX1_best_102 : decode cX1_best 102 = .ok (.invokestatic 279, 3) := dk_184 1 23 (dk_at dksX1_best_4 9 rfl rfl)
theorem dX1_best_105 : decode cX1_best 105 = .ok (.invokevirtual 284, 3) := dk_182 1 28 (dk_at dksX1_best_4 12 rfl rfl)
theorem dX1_best_108 : decode cX1_best 108 = .ok (.istore 8, 2) := dk_54 8 (dk_at dksX1_best_4 15 rfl rfl)
theorem dX1_best_110 : decode cX1_best 110 = .ok (.iload 8, 2) := dk_21 8 (dk_at dksX1_best_4 17 rfl rfl)
theorem dX1_best_112 : decode cX1_best 112 = .ok (.iload 5, 2) := dk_21 5 (dk_at dksX1_best_4 19 rfl rfl)
theorem dX1_best_114 : decode cX1_best 114 = .ok (.if_icmp .gt 6, 3) := dk_163 0 6 (dk_at dksX1_best_4 21 rfl rfl)
theorem dX1_best_117 : decode cX1_best 117 = .ok (.goto 11, 3) := dk_167 0 11 (dk_at dksX1_best_5 0 rfl rfl)
theorem dX1_best_120 : decode cX1_best 120 = .ok (.iload 8, 2) := dk_21 8 (dk_at dksX1_best_5 3 rfl rfl)
theorem dX1_best_122 : decode cX1_best 122 = .ok (.istore 5, 2) := dk_54 5 (dk_at dksX1_best_5 5 rfl rfl)
theorem dX1_best_124 : decode cX1_best 124 = .ok (.iload 7, 2) := dk_21 7 (dk_at dksX1_best_5 7 rfl rfl)
theorem dX1_best_126 : decode cX1_best 126 = .ok (.istore 6, 2) := dk_54 6 (dk_at dksX1_best_5 9 rfl rfl)
theorem dX1_best_128 : decode cX1_best 128 = .ok (.iinc 7 1, 3) := dk_132 7 1 (dk_at dksX1_best_5 11 rfl rfl)
theorem dX1_best_131 : decode cX1_best 131 = .ok (.goto (-80), 3) := dk_167 255 176 (dk_at dksX1_best_5 14 rfl rfl)
theorem dX1_best_134 : decode cX1_best 134 = .ok (.iload 5, 2) := dk_21 5 (dk_at dksX1_best_5 17 rfl rfl)
theorem dX1_best_136 : decode cX1_best 136 = .ok (.iconst (-1), 1) := dk_2 (dk_at dksX1_best_5 19 rfl rfl)
theorem dX1_best_137 : decode cX1_best 137 = .ok (.if_icmp .ne 5, 3) := dk_160 0 5 (dk_at dksX1_best_5 20 rfl rfl)
theorem dX1_best_140 : decode cX1_best 140 = .ok (.iconst (-1), 1) := dk_2 (dk_at dksX1_best_5 23 rfl rfl)
theorem dX1_best_141 : decode cX1_best 141 = .ok (.ireturn, 1) := dk_172 (dk_at dksX1_best_6 0 rfl rfl)
theorem dX1_best_142 : decode cX1_best 142 = .ok (.aload_n 0, 1) := dk_42 (dk_at dksX1_best_6 1 rfl rfl)
theorem dX1_best_143 : decode cX1_best 143 = .ok (.iload 6, 2) := dk_21 6 (dk_at dksX1_best_6 2 rfl rfl)
theorem dX1_best_145 : decode cX1_best 145 = .ok (.putfield 53, 3) := dk_181 0 53 (dk_at dksX1_best_6 4 rfl rfl)
theorem dX1_best_148 : decode cX1_best 148 = .ok (.iload 5, 2) := dk_21 5 (dk_at dksX1_best_6 7 rfl rfl)
theorem dX1_best_150 : decode cX1_best 150 = .ok (.ireturn, 1) := dk_172 (dk_at dksX1_best_6 9 rfl rfl)
theorem md_J17_bitCount : cz_md yJ17_bitCount 1 (ws_ yJ17_bitCount cJ17_bitCount 1 ((Option.some Jvm.ClassFile.FieldType.int))) 1 := ⟨cz_ws_code q1377, q149, ⟨by decide, by decide, by decide +kernel⟩, by decide⟩
theorem se_HeldCoats_worthOf__I_I_HeldCoats : ∀ c ∈ ([0] : List Nat), ∃ q : vw_C, cz_cl[c]? = some q ∧ Cond.selects q.1 (⟨"HeldCoats", "worthOf", "(I)I"⟩ : MethodName) (⟨"HeldCoats", "worthOf", "(I)I"⟩ : MethodName) ∈ lw_all := List.forall_mem_cons.mpr ⟨⟨_, cz_cl0, qs22⟩, fun _ h => absurd h List.not_mem_nil⟩
theorem md_X1_worthOf : cz_md yX1_worthOf 7 (ws_ yX1_worthOf cX1_worthOf 7 ((Option.some Jvm.ClassFile.FieldType.int))) 1 := ⟨cz_ws_code q1384, q113, ⟨by decide, by decide, by decide +kernel⟩, by decide⟩
theorem fw_X1_53 : cz_FW "HeldCoats" 53 [(0, 9)] "I" := ⟨"HeldCoats", "laid", Or.inl q389, List.forall_mem_cons.mpr ⟨⟨RX1, TX1, 18, rfl, by decide, rfl, rfl, Or.inl rfl⟩, fun _ h => absurd h List.not_mem_nil⟩, by decide⟩
theorem fp_X1_m_0_9 {nm : String} : cz_FP "HeldCoats" nm [(0, 9)] := List.forall_mem_cons.mpr ⟨⟨RX1, TX1, 18, rfl, Or.inl rfl⟩, fun _ h => absurd h List.not_mem_nil⟩
set_option maxHeartbeats 4000000 in
set_option maxRecDepth 100000 in
noncomputable def fn_X1_best_51 (l0 : Option Nat) (l1 : Int32) (l2 : Int32) (l3 : Int32) (l4 : Int32) (k0 : Int32 → Int32 → cz_H → cz_Z) : Nat → Int32 → Int32 → Int32 → cz_H → cz_Z
  | 0, _, _, _, _ => none
  | n + 1, l5, l6, l7, h => (if l4 < l7 then k0 l5 l6 h else (if (l7 &&& (l4 ^^^ (-1))) = 0 then cz_getR h l0 [(0, 4)] (fun r31 => cz_getR h l0 [(0, 4)] (fun r32 => cz_getI h r32 [(3, 1)] (fun x33 => cz_rc h r31 [3] (cz_cI (fn_X3_chill r31 l1 (l3 &&& (l7 ^^^ (-1))) x33 h) (fun x41 h40 => cz_cI (fn_X3_square x41 h40) (fun x43 h42 => (if x43 ≤ l2 then cz_cI (fn_J17_bitCount l7 h42) (fun x45 h44 => cz_rc h44 l0 [0] (cz_cI (fn_X1_worthOf l0 x45 h44) (fun x53 h52 => (if l5 < x53 then cz_leti (l7 + 1) (fun x54 => fn_X1_best_51 l0 l1 l2 l3 l4 k0 n x53 l7 x54 h52) else cz_leti (l7 + 1) (fun x55 => fn_X1_best_51 l0 l1 l2 l3 l4 k0 n l5 l6 x55 h52))))) else cz_leti (l7 + 1) (fun x56 => fn_X1_best_51 l0 l1 l2 l3 l4 k0 n l5 l6 x56 h42)))))))) else cz_leti (l7 + 1) (fun x30 => fn_X1_best_51 l0 l1 l2 l3 l4 k0 n l5 l6 x30 h)))
set_option maxHeartbeats 4000000 in
set_option maxRecDepth 100000 in
theorem wk_X1_best_51 {K : cz_K} {D : cz_D} {h0 : cz_H} {oh : cz_O × cz_H} {l0 : Option Nat} {l1 : Int32} {l2 : Int32} {l3 : Int32} {l4 : Int32} {k0 : Int32 → Int32 → cz_H → cz_Z} (S : cz_S K D h0 cX1_best 9 "HeldCoats" ((Option.some Jvm.ClassFile.FieldType.int)) "best" ([])) (hk0 : ∀ (e5 : Int32) (e6 : Int32) (h : cz_H), cz_T K D 7 h0 oh 9 (k0 e5 e6 h) h 134 [(0, cz_r l0), (5, cz_i e5), (6, cz_i e6)] []) : ∀ (n : Nat) (l5 : Int32) (l6 : Int32) (l7 : Int32) (h : cz_H), cz_T K D 7 h0 oh 9 (fn_X1_best_51 l0 l1 l2 l3 l4 k0 n l5 l6 l7 h) h 51 [(0, cz_r l0), (1, cz_i l1), (2, cz_i l2), (3, cz_i l3), (4, cz_i l4), (5, cz_i l5), (6, cz_i l6), (7, cz_i l7)] [] := by
  intro n
  induction n with
  | zero => intros; exact ct_none
  | succ n ih =>
    intro l5 l6 l7 h
    rw [fn_X1_best_51]
    refine ct_iload (k := 7) S dX1_best_51 rfl ?_
    refine ct_iload (k := 4) S dX1_best_53 rfl ?_
    refine ct_icmp_gt (tgt := 134) S dX1_best_55 (by decide) ?_ ?_
    · exact ct_sub [0, 5, 6] rfl (hk0 l5 l6 h)
    · refine ct_iload (k := 7) S dX1_best_58 rfl ?_
      refine ct_iload (k := 4) S dX1_best_60 rfl ?_
      refine ct_iconst (v := (-1)) S dX1_best_62 kI_m1 ?_
      refine ct_ixor S dX1_best_63 ?_
      refine ct_iand S dX1_best_64 ?_
      refine ct_if_ne (tgt := 128) S dX1_best_65 (by decide) ?_ ?_
      · refine ct_iincL (j := 7) (L2 := fun x30 => [(7, cz_i x30), (0, cz_r l0), (1, cz_i l1), (2, cz_i l2), (3, cz_i l3), (4, cz_i l4), (5, cz_i l5), (6, cz_i l6)]) S dX1_best_128 rfl kI_1 (by decide) (fun _ => rfl) (fun x30 => ?_)
        refine ct_goto (tgt := 51) S dX1_best_131 (by decide) ?_
        exact ct_sub [1, 2, 3, 4, 5, 6, 7, 0] rfl (ih l5 l6 x30 h)
      · refine ct_aload_n (k := 0) S dX1_best_68 rfl rfl ?_
        refine ct_getR S fw_X1_42 dX1_best_69 (fun r31 => ?_)
        refine ct_iload_n (k := 1) S dX1_best_72 rfl rfl ?_
        refine ct_iload_n (k := 3) S dX1_best_73 rfl rfl ?_
        refine ct_iload (k := 7) S dX1_best_74 rfl ?_
        refine ct_iconst (v := (-1)) S dX1_best_76 kI_m1 ?_
        refine ct_ixor S dX1_best_77 ?_
        refine ct_iand S dX1_best_78 ?_
        refine ct_aload_n (k := 0) S dX1_best_79 rfl rfl ?_
        refine ct_getR S fw_X1_42 dX1_best_80 (fun r32 => ?_)
        refine ct_getI S fw_X1_15 dX1_best_83 (fun x33 => ?_)
        refine ct_rc (fun b34 ci35 V36 hb37 hc38 hi39 => ?_)
        refine ct_cI (st := []) (cg_virtual (av := [cz_i l1, cz_i (l3 &&& (l7 ^^^ (-1))), cz_i x33]) S hb37 hc38 hi39 (fun _ e => mt_X3_chill e) md_X3_chill q1373 q1226 se_HeldCoats_Reign_chill__III_I_HeldCoats_Reign (by decide) (Nat.le_of_ble_eq_true rfl) rfl dX1_best_86) (fun x41 h40 => ?_)
        refine ct_cI (st := []) (cg_static (av := [cz_i x41]) S (fun _ e => mt_X3_square e) md_X3_square (Or.inl q1374) q1237 (by decide) (Nat.le_of_ble_eq_true rfl) rfl dX1_best_89) (fun x43 h42 => ?_)
        refine ct_iload_n (k := 2) S dX1_best_92 rfl rfl ?_
        refine ct_icmp_le (tgt := 99) S dX1_best_93 (by decide) ?_ ?_
        · refine ct_aload_n (k := 0) S dX1_best_99 rfl rfl ?_
          refine ct_iload (k := 7) S dX1_best_100 rfl ?_
          refine ct_cI (st := [cz_r l0]) (cg_static (av := [cz_i l7]) S (fun _ e => mt_J17_bitCount e) md_J17_bitCount (Or.inl q1375) q1376 (by decide) (Nat.le_of_ble_eq_true rfl) rfl dX1_best_102) (fun x45 h44 => ?_)
          refine ct_rc (fun b46 ci47 V48 hb49 hc50 hi51 => ?_)
          refine ct_cI (st := []) (cg_virtual (av := [cz_i x45]) S hb49 hc50 hi51 (fun _ e => mt_X1_worthOf e) md_X1_worthOf q1381 q1383 se_HeldCoats_worthOf__I_I_HeldCoats (by decide) (Nat.le_of_ble_eq_true rfl) rfl dX1_best_105) (fun x53 h52 => ?_)
          refine ct_istore (L' := [(8, cz_i x53), (0, cz_r l0), (1, cz_i l1), (2, cz_i l2), (3, cz_i l3), (4, cz_i l4), (5, cz_i l5), (6, cz_i l6), (7, cz_i l7)]) S dX1_best_108 (by decide) rfl ?_
          refine ct_iload (k := 0) S dX1_best_110 rfl ?_
          refine ct_iload (k := 6) S dX1_best_112 rfl ?_
          refine ct_icmp_gt (tgt := 120) S dX1_best_114 (by decide) ?_ ?_
          · refine ct_iload (k := 0) S dX1_best_120 rfl ?_
            refine ct_istore (L' := [(5, cz_i x53), (8, cz_i x53), (0, cz_r l0), (1, cz_i l1), (2, cz_i l2), (3, cz_i l3), (4, cz_i l4), (6, cz_i l6), (7, cz_i l7)]) S dX1_best_122 (by decide) rfl ?_
            refine ct_iload (k := 8) S dX1_best_124 rfl ?_
            refine ct_istore (L' := [(6, cz_i l7), (5, cz_i x53), (8, cz_i x53), (0, cz_r l0), (1, cz_i l1), (2, cz_i l2), (3, cz_i l3), (4, cz_i l4), (7, cz_i l7)]) S dX1_best_126 (by decide) rfl ?_
            refine ct_iincL (j := 8) (L2 := fun x54 => [(7, cz_i x54), (6, cz_i l7), (5, cz_i x53), (8, cz_i x53), (0, cz_r l0), (1, cz_i l1), (2, cz_i l2), (3, cz_i l3), (4, cz_i l4)]) S dX1_best_128 rfl kI_1 (by decide) (fun _ => rfl) (fun x54 => ?_)
            refine ct_goto (tgt := 51) S dX1_best_131 (by decide) ?_
            exact ct_sub [4, 5, 6, 7, 8, 2, 1, 0] rfl (ih x53 l7 x54 h52)
          · refine ct_goto (tgt := 128) S dX1_best_117 (by decide) ?_
            refine ct_iincL (j := 8) (L2 := fun x55 => [(7, cz_i x55), (8, cz_i x53), (0, cz_r l0), (1, cz_i l1), (2, cz_i l2), (3, cz_i l3), (4, cz_i l4), (5, cz_i l5), (6, cz_i l6)]) S dX1_best_128 rfl kI_1 (by decide) (fun _ => rfl) (fun x55 => ?_)
            refine ct_goto (tgt := 51) S dX1_best_131 (by decide) ?_
            exact ct_sub [2, 3, 4, 5, 6, 7, 8, 0] rfl (ih l5 l6 x55 h52)
        · refine ct_goto (tgt := 128) S dX1_best_96 (by decide) ?_
          refine ct_iincL (j := 7) (L2 := fun x56 => [(7, cz_i x56), (0, cz_r l0), (1, cz_i l1), (2, cz_i l2), (3, cz_i l3), (4, cz_i l4), (5, cz_i l5), (6, cz_i l6)]) S dX1_best_128 rfl kI_1 (by decide) (fun _ => rfl) (fun x56 => ?_)
          refine ct_goto (tgt := 51) S dX1_best_131 (by decide) ?_
          exact ct_sub [1, 2, 3, 4, 5, 6, 7, 0] rfl (ih l5 l6 x56 h42)
set_option maxHeartbeats 4000000 in
set_option maxRecDepth 100000 in
noncomputable def fn_X1_best (l0 : Option Nat) (l1 : Int32) (l2 : Int32) (h : cz_H) : cz_Z := cz_rc h l0 [0] (cz_cI (fn_X1_isMan l0 l1 h) (fun x8 h7 => (if x8 = 0 then some (.inl (some (cz_i (-1))), h7) else cz_cI (fn_X1_isIn l2 0 999 h7) (fun x10 h9 => (if x10 = 0 then some (.inl (some (cz_i (-1))), h9) else cz_getR h9 l0 [(0, 4)] (fun r11 => cz_rc h9 r11 [3] (cz_cI (fn_X3_wornBy r11 l1 h9) (fun x19 h18 => cz_getR h18 l0 [(0, 3)] (fun r20 => cz_rc h18 r20 [1] (cz_cI (fn_X2_coatsOf r20 l1 h18) (fun x28 h27 => cz_leti (x19 &&& x28) (fun x29 => fn_X1_best_51 l0 l1 l2 x19 x29 (fun (e57 : Int32) (e58 : Int32) (h59 : cz_H) => (if e57 = (-1) then some (.inl (some (cz_i (-1))), h59) else cz_put h59 l0 [(0, 9)] (cz_i e58) (fun h60 => some (.inl (some (cz_i e57)), h60)))) 1000 (-1) (-1) 0 h27))))))))))))
set_option maxHeartbeats 4000000 in
set_option maxRecDepth 100000 in
theorem wk_X1_best {K : cz_K} {D : cz_D} {h0 : cz_H} {oh : cz_O × cz_H} {l0 : Option Nat} {l1 : Int32} {l2 : Int32} {h : cz_H} (S : cz_S K D h0 cX1_best 9 "HeldCoats" ((Option.some Jvm.ClassFile.FieldType.int)) "best" ([])) : cz_T K D 7 h0 oh 9 (fn_X1_best l0 l1 l2 h) h 0 [(0, cz_r l0), (1, cz_i l1), (2, cz_i l2)] [] := by
  unfold fn_X1_best
  refine ct_aload_n (k := 0) S dX1_best_0 rfl rfl ?_
  refine ct_iload_n (k := 1) S dX1_best_1 rfl rfl ?_
  refine ct_rc (fun b1 ci2 V3 hb4 hc5 hi6 => ?_)
  refine ct_cI (st := []) (cg_virtual (av := [cz_i l1]) S hb4 hc5 hi6 (fun _ e => mt_X1_isMan e) md_X1_isMan q1309 q1311 se_HeldCoats_isMan__I_Z_HeldCoats (by decide) (Nat.le_of_ble_eq_true rfl) rfl dX1_best_2) (fun x8 h7 => ?_)
  refine ct_if_eq (tgt := 19) S dX1_best_5 (by decide) ?_ ?_
  · refine ct_iconst (v := (-1)) S dX1_best_19 kI_m1 ?_
    exact ct_iret S rfl dX1_best_20
  · refine ct_iload_n (k := 2) S dX1_best_8 rfl rfl ?_
    refine ct_iconst (v := 0) S dX1_best_9 kI_0 ?_
    refine ct_sipush (v := 999) S dX1_best_10 kS_999 ?_
    refine ct_cI (st := []) (cg_static (av := [cz_i l2, cz_i 0, cz_i 999]) S (fun _ e => mt_X1_isIn e) md_X1_isIn (Or.inl q1355) q929 (by decide) (Nat.le_of_ble_eq_true rfl) rfl dX1_best_13) (fun x10 h9 => ?_)
    refine ct_if_ne (tgt := 21) S dX1_best_16 (by decide) ?_ ?_
    · refine ct_aload_n (k := 0) S dX1_best_21 rfl rfl ?_
      refine ct_getR S fw_X1_42 dX1_best_22 (fun r11 => ?_)
      refine ct_iload_n (k := 1) S dX1_best_25 rfl rfl ?_
      refine ct_rc (fun b12 ci13 V14 hb15 hc16 hi17 => ?_)
      refine ct_cI (st := []) (cg_virtual (av := [cz_i l1]) S hb15 hc16 hi17 (fun _ e => mt_X3_wornBy e) md_X3_wornBy q1366 q1222 se_HeldCoats_Reign_wornBy__I_I_HeldCoats_Reign (by decide) (Nat.le_of_ble_eq_true rfl) rfl dX1_best_26) (fun x19 h18 => ?_)
      refine ct_istore_n (L' := [(3, cz_i x19), (0, cz_r l0), (1, cz_i l1), (2, cz_i l2)]) S dX1_best_29 rfl (by decide) rfl ?_
      refine ct_iload_n (k := 0) S dX1_best_30 rfl rfl ?_
      refine ct_aload_n (k := 1) S dX1_best_31 rfl rfl ?_
      refine ct_getR S fw_X1_33 dX1_best_32 (fun r20 => ?_)
      refine ct_iload_n (k := 2) S dX1_best_35 rfl rfl ?_
      refine ct_rc (fun b21 ci22 V23 hb24 hc25 hi26 => ?_)
      refine ct_cI (st := [cz_i x19]) (cg_virtual (av := [cz_i l1]) S hb24 hc25 hi26 (fun _ e => mt_X2_coatsOf e) md_X2_coatsOf q1367 q1368 se_HeldCoats_Capital_coatsOf__I_I_HeldCoats_Capital (by decide) (Nat.le_of_ble_eq_true rfl) rfl dX1_best_36) (fun x28 h27 => ?_)
      refine ct_iand S dX1_best_39 ?_
      refine ct_leti (fun x29 => ?_)
      refine ct_istore (L' := [(4, cz_i x29), (3, cz_i x19), (0, cz_r l0), (1, cz_i l1), (2, cz_i l2)]) S dX1_best_40 (by decide) rfl ?_
      refine ct_iconst (v := (-1)) S dX1_best_42 kI_m1 ?_
      refine ct_istore (L' := [(5, cz_i (-1)), (4, cz_i x29), (3, cz_i x19), (0, cz_r l0), (1, cz_i l1), (2, cz_i l2)]) S dX1_best_43 (by decide) rfl ?_
      refine ct_iconst (v := (-1)) S dX1_best_45 kI_m1 ?_
      refine ct_istore (L' := [(6, cz_i (-1)), (5, cz_i (-1)), (4, cz_i x29), (3, cz_i x19), (0, cz_r l0), (1, cz_i l1), (2, cz_i l2)]) S dX1_best_46 (by decide) rfl ?_
      refine ct_iconst (v := 0) S dX1_best_48 kI_0 ?_
      refine ct_istore (L' := [(7, cz_i 0), (6, cz_i (-1)), (5, cz_i (-1)), (4, cz_i x29), (3, cz_i x19), (0, cz_r l0), (1, cz_i l1), (2, cz_i l2)]) S dX1_best_49 (by decide) rfl ?_
      refine ct_sub [5, 6, 7, 4, 3, 2, 1, 0] (L' := [(0, cz_r l0), (1, cz_i l1), (2, cz_i l2), (3, cz_i x19), (4, cz_i x29), (5, cz_i (-1)), (6, cz_i (-1)), (7, cz_i 0)]) rfl (wk_X1_best_51 S ?_ 1000 (-1) (-1) 0 h27)
      · intro e57 e58 h59
        refine ct_iload (k := 1) S dX1_best_134 rfl ?_
        refine ct_iconst (v := (-1)) S dX1_best_136 kI_m1 ?_
        refine ct_icmp_ne (tgt := 142) S dX1_best_137 (by decide) ?_ ?_
        · refine ct_aload_n (k := 0) S dX1_best_142 rfl rfl ?_
          refine ct_iload (k := 2) S dX1_best_143 rfl ?_
          refine ct_put S fw_X1_53 fp_X1_m_0_9 (cz_fits_i pd_I) dX1_best_145 (fun h60 => ?_)
          refine ct_iload (k := 1) S dX1_best_148 rfl ?_
          exact ct_iret S rfl dX1_best_150
        · refine ct_iconst (v := (-1)) S dX1_best_140 kI_m1 ?_
          exact ct_iret S rfl dX1_best_141
    · refine ct_iconst (v := (-1)) S dX1_best_19 kI_m1 ?_
      exact ct_iret S rfl dX1_best_20
theorem mt_X1_best {l : Launch} {D : cz_D} {l0 : Option Nat} {l1 : Int32} {l2 : Int32} {h : cz_H} {oh : cz_O × cz_H} (hz : fn_X1_best l0 l1 l2 h = some oh) : cz_M l D yX1_best (ws_ yX1_best cX1_best 9 ((Option.some Jvm.ClassFile.FieldType.int))) 7 [cz_r l0, cz_i l1, cz_i l2] h oh := cz_met (plainFor_of_name (by decide)) (Nat.le_of_ble_eq_true rfl) hz (fun K hl S => wk_X1_best S)
/-! java/util/AbstractCollection.<init>()V -/
theorem dJ0_init_0 : decode cJ0_init 0 = .ok (.aload_n 0, 1) := by decide +kernel
theorem dJ0_init_1 : decode cJ0_init 1 = .ok (.invokespecial 1, 3) := by decide +kernel
theorem dJ0_init_4 : decode cJ0_init 4 = .ok (.return_, 1) := by decide +kernel
set_option maxHeartbeats 4000000 in
set_option maxRecDepth 100000 in
noncomputable def fn_J0_init (l0 : Option Nat) (h : cz_H) : cz_Z := cz_nn' l0 (some (.inl none, h))
set_option maxHeartbeats 4000000 in
set_option maxRecDepth 100000 in
theorem wk_J0_init {K : cz_K} {D : cz_D} {h0 : cz_H} {oh : cz_O × cz_H} {l0 : Option Nat} {h : cz_H} (S : cz_S K D h0 cJ0_init 1 "java/util/AbstractCollection" ((Option.none : Option Jvm.ClassFile.FieldType)) "<init>" ([])) : cz_T K D 3 h0 oh 1 (fn_J0_init l0 h) h 0 [(0, cz_r l0)] [] := by
  unfold fn_J0_init
  refine ct_aload_n (k := 0) S dJ0_init_0 rfl rfl ?_
  refine ct_oinit S q184 q165 q166 (by decide) (Nat.le_of_ble_eq_true rfl) dJ0_init_1 ?_
  exact ct_vret S rfl dJ0_init_4
theorem mt_J0_init {l : Launch} {D : cz_D} {l0 : Option Nat} {h : cz_H} {oh : cz_O × cz_H} (hz : fn_J0_init l0 h = some oh) : cz_M l D yJ0_init (ws_ yJ0_init cJ0_init 1 ((Option.none : Option Jvm.ClassFile.FieldType))) 3 [cz_r l0] h oh := cz_met (plainFor_of_name (by decide)) (Nat.le_of_ble_eq_true rfl) hz (fun K hl S => wk_J0_init S)
/-! java/util/AbstractList.<init>()V -/
def dkwJ1_init_0 : List UInt8 := [42, 183, 0, 1, 42, 3, 181, 0, 7, 177]
abbrev dktJ1_init_0 : List UInt8 := dkwJ1_init_0 ++ []
theorem dksJ1_init_0 : cJ1_init.data.toList.drop 0 = dktJ1_init_0 := by decide +kernel
theorem dJ1_init_0 : decode cJ1_init 0 = .ok (.aload_n 0, 1) := dk_42 (dk_at dksJ1_init_0 0 rfl rfl)
theorem dJ1_init_1 : decode cJ1_init 1 = .ok (.invokespecial 1, 3) := dk_183 0 1 (dk_at dksJ1_init_0 1 rfl rfl)
theorem dJ1_init_4 : decode cJ1_init 4 = .ok (.aload_n 0, 1) := dk_42 (dk_at dksJ1_init_0 4 rfl rfl)
theorem dJ1_init_5 : decode cJ1_init 5 = .ok (.iconst 0, 1) := dk_3 (dk_at dksJ1_init_0 5 rfl rfl)
theorem dJ1_init_6 : decode cJ1_init 6 = .ok (.putfield 7, 3) := dk_181 0 7 (dk_at dksJ1_init_0 6 rfl rfl)
theorem dJ1_init_9 : decode cJ1_init 9 = .ok (.return_, 1) := dk_177 (dk_at dksJ1_init_0 9 rfl rfl)
theorem nh_java_util_AbstractCollection__init____V : cz_nh ⟨"java/util/AbstractCollection", "<init>", "()V"⟩ 0 := ⟨by decide, by decide, by decide +kernel⟩
theorem fw_J1_7 : cz_FW "java/util/AbstractList" 7 [(2, 0)] "I" := ⟨"java/util/AbstractList", "modCount", Or.inl q189, List.forall_mem_cons.mpr ⟨⟨RJ2, TJ2, 3, rfl, by decide, rfl, rfl, Or.inl rfl⟩, fun _ h => absurd h List.not_mem_nil⟩, by decide⟩
theorem fp_J1_i_2_0 : cz_FP "java/util/AbstractList" "<init>" [(2, 0)] := List.forall_mem_cons.mpr ⟨⟨RJ2, TJ2, 3, rfl, Or.inl rfl⟩, fun _ h => absurd h List.not_mem_nil⟩
set_option maxHeartbeats 4000000 in
set_option maxRecDepth 100000 in
noncomputable def fn_J1_init (l0 : Option Nat) (h : cz_H) : cz_Z := cz_nn' l0 (cz_cV (fn_J0_init l0 h) (fun h3 => cz_put h3 l0 [(2, 0)] (cz_i 0) (fun h4 => some (.inl none, h4))))
set_option maxHeartbeats 4000000 in
set_option maxRecDepth 100000 in
theorem wk_J1_init {K : cz_K} {D : cz_D} {h0 : cz_H} {oh : cz_O × cz_H} {l0 : Option Nat} {h : cz_H} (S : cz_S K D h0 cJ1_init 1 "java/util/AbstractList" ((Option.none : Option Jvm.ClassFile.FieldType)) "<init>" ([])) : cz_T K D 4 h0 oh 1 (fn_J1_init l0 h) h 0 [(0, cz_r l0)] [] := by
  unfold fn_J1_init
  refine ct_aload_n (k := 0) S dJ1_init_0 rfl rfl ?_
  refine ct_nn (fun b1 hb2 => ?_)
  refine ct_cV (st := []) (cg_init (av := []) S hb2 (fun _ e => mt_J0_init e) q183 (Or.inl q181) rfl q182 q115 nh_java_util_AbstractCollection__init____V (by decide) (by decide) (Nat.le_of_ble_eq_true rfl) rfl dJ1_init_1) (fun h3 => ?_)
  refine ct_aload_n (k := 0) S dJ1_init_4 rfl rfl ?_
  refine ct_iconst (v := 0) S dJ1_init_5 kI_0 ?_
  refine ct_put S fw_J1_7 fp_J1_i_2_0 (cz_fits_i pd_I) dJ1_init_6 (fun h4 => ?_)
  exact ct_vret S rfl dJ1_init_9
theorem mt_J1_init {l : Launch} {D : cz_D} {l0 : Option Nat} {h : cz_H} {oh : cz_O × cz_H} (hz : fn_J1_init l0 h = some oh) : cz_M l D yJ1_init (ws_ yJ1_init cJ1_init 1 ((Option.none : Option Jvm.ClassFile.FieldType))) 4 [cz_r l0] h oh := cz_met (plainFor_of_name (by decide)) (Nat.le_of_ble_eq_true rfl) hz (fun K hl S => wk_J1_init S)
/-! java/util/ArrayList.<init>()V -/
def dkwJ2_init_0 : List UInt8 := [42, 183, 0, 1, 42, 178, 0, 39, 181, 0, 9, 177]
abbrev dktJ2_init_0 : List UInt8 := dkwJ2_init_0 ++ []
theorem dksJ2_init_0 : cJ2_init.data.toList.drop 0 = dktJ2_init_0 := by decide +kernel
theorem dJ2_init_0 : decode cJ2_init 0 = .ok (.aload_n 0, 1) := dk_42 (dk_at dksJ2_init_0 0 rfl rfl)
theorem dJ2_init_1 : decode cJ2_init 1 = .ok (.invokespecial 1, 3) := dk_183 0 1 (dk_at dksJ2_init_0 1 rfl rfl)
theorem dJ2_init_4 : decode cJ2_init 4 = .ok (.aload_n 0, 1) := dk_42 (dk_at dksJ2_init_0 4 rfl rfl)
theorem dJ2_init_5 : decode cJ2_init 5 = .ok (.getstatic 39, 3) := dk_178 0 39 (dk_at dksJ2_init_0 5 rfl rfl)
theorem dJ2_init_8 : decode cJ2_init 8 = .ok (.putfield 9, 3) := dk_181 0 9 (dk_at dksJ2_init_0 8 rfl rfl)
theorem dJ2_init_11 : decode cJ2_init 11 = .ok (.return_, 1) := dk_177 (dk_at dksJ2_init_0 11 rfl rfl)
theorem nh_java_util_AbstractList__init____V : cz_nh ⟨"java/util/AbstractList", "<init>", "()V"⟩ 0 := ⟨by decide, by decide, by decide +kernel⟩
theorem fp_J2_i_2_1 : cz_FP "java/util/ArrayList" "<init>" [(2, 1)] := List.forall_mem_cons.mpr ⟨⟨RJ2, TJ2, 3, rfl, Or.inl rfl⟩, fun _ h => absurd h List.not_mem_nil⟩
theorem pd__Ljava_lang_Object_ : parseFieldDescriptor "[Ljava/lang/Object;" = some (.array (.object "java/lang/Object")) := by decide +kernel
set_option maxHeartbeats 4000000 in
set_option maxRecDepth 100000 in
noncomputable def fn_J2_init (l0 : Option Nat) (h : cz_H) : cz_Z := cz_nn' l0 (cz_cV (fn_J1_init l0 h) (fun h3 => cz_put h3 l0 [(2, 1)] (cz_r (h3.1.2.2.2 27)) (fun h4 => some (.inl none, h4))))
set_option maxHeartbeats 4000000 in
set_option maxRecDepth 100000 in
theorem wk_J2_init {K : cz_K} {D : cz_D} {h0 : cz_H} {oh : cz_O × cz_H} {l0 : Option Nat} {h : cz_H} (S : cz_S K D h0 cJ2_init 1 "java/util/ArrayList" ((Option.none : Option Jvm.ClassFile.FieldType)) "<init>" ([])) : cz_T K D 5 h0 oh 1 (fn_J2_init l0 h) h 0 [(0, cz_r l0)] [] := by
  unfold fn_J2_init
  refine ct_aload_n (k := 0) S dJ2_init_0 rfl rfl ?_
  refine ct_nn (fun b1 hb2 => ?_)
  refine ct_cV (st := []) (cg_init (av := []) S hb2 (fun _ e => mt_J1_init e) q180 (Or.inl q178) rfl q179 q116 nh_java_util_AbstractList__init____V (by decide) (by decide) (Nat.le_of_ble_eq_true rfl) rfl dJ2_init_1) (fun h3 => ?_)
  refine ct_aload_n (k := 0) S dJ2_init_4 rfl rfl ?_
  refine ct_getsR (i := 1) (j := 27) S rfl q185 dJ2_init_5 ?_
  refine ct_put S fw_J2_9 fp_J2_i_2_1 (cz_fits_a pd__Ljava_lang_Object_) dJ2_init_8 (fun h4 => ?_)
  exact ct_vret S rfl dJ2_init_11
theorem mt_J2_init {l : Launch} {D : cz_D} {l0 : Option Nat} {h : cz_H} {oh : cz_O × cz_H} (hz : fn_J2_init l0 h = some oh) : cz_M l D yJ2_init (ws_ yJ2_init cJ2_init 1 ((Option.none : Option Jvm.ClassFile.FieldType))) 5 [cz_r l0] h oh := cz_met (plainFor_of_name (by decide)) (Nat.le_of_ble_eq_true rfl) hz (fun K hl S => wk_J2_init S)
/-! HeldCoats$Reader.<init>([BII)V -/
def dkwX6_init_1 : List UInt8 := [181, 0, 25, 177]
abbrev dktX6_init_1 : List UInt8 := dkwX6_init_1 ++ []
def dkwX6_init_0 : List UInt8 := [42, 183, 0, 3, 42, 18, 9, 181, 0, 11, 42, 43, 181, 0, 17, 42, 28, 181, 0, 21, 42, 29]
abbrev dktX6_init_0 : List UInt8 := dkwX6_init_0 ++ dktX6_init_1
theorem dksX6_init_0 : cX6_init.data.toList.drop 0 = dktX6_init_0 := by decide +kernel
theorem dksX6_init_1 : cX6_init.data.toList.drop 22 = dktX6_init_1 := dk_seg dksX6_init_0 22 rfl rfl
theorem dX6_init_0 : decode cX6_init 0 = .ok (.aload_n 0, 1) := dk_42 (dk_at dksX6_init_0 0 rfl rfl)
theorem dX6_init_1 : decode cX6_init 1 = .ok (.invokespecial 3, 3) := dk_183 0 3 (dk_at dksX6_init_0 1 rfl rfl)
theorem dX6_init_4 : decode cX6_init 4 = .ok (.aload_n 0, 1) := dk_42 (dk_at dksX6_init_0 4 rfl rfl)
theorem dX6_init_5 : decode cX6_init 5 = .ok (.ldc 9, 2) := dk_18 9 (dk_at dksX6_init_0 5 rfl rfl)
theorem dX6_init_7 : decode cX6_init 7 = .ok (.putfield 11, 3) := dk_181 0 11 (dk_at dksX6_init_0 7 rfl rfl)
theorem dX6_init_10 : decode cX6_init 10 = .ok (.aload_n 0, 1) := dk_42 (dk_at dksX6_init_0 10 rfl rfl)
theorem dX6_init_11 : decode cX6_init 11 = .ok (.aload_n 1, 1) := dk_43 (dk_at dksX6_init_0 11 rfl rfl)
theorem dX6_init_12 : decode cX6_init 12 = .ok (.putfield 17, 3) := dk_181 0 17 (dk_at dksX6_init_0 12 rfl rfl)
theorem dX6_init_15 : decode cX6_init 15 = .ok (.aload_n 0, 1) := dk_42 (dk_at dksX6_init_0 15 rfl rfl)
theorem dX6_init_16 : decode cX6_init 16 = .ok (.iload_n 2, 1) := dk_28 (dk_at dksX6_init_0 16 rfl rfl)
theorem dX6_init_17 : decode cX6_init 17 = .ok (.putfield 21, 3) := dk_181 0 21 (dk_at dksX6_init_0 17 rfl rfl)
theorem dX6_init_20 : decode cX6_init 20 = .ok (.aload_n 0, 1) := dk_42 (dk_at dksX6_init_0 20 rfl rfl)
theorem dX6_init_21 : decode cX6_init 21 = .ok (.iload_n 3, 1) := dk_29 (dk_at dksX6_init_0 21 rfl rfl)
theorem dX6_init_22 : decode cX6_init 22 = .ok (.putfield 25, 3) := dk_181 0 25 (dk_at dksX6_init_1 0 rfl rfl)
theorem dX6_init_25 : decode cX6_init 25 = .ok (.return_, 1) := dk_177 (dk_at dksX6_init_1 3 rfl rfl)
theorem fw_X6_11 : cz_FW "HeldCoats$Reader" 11 [(6, 8), (16, 8), (18, 8)] "Ljava/lang/String;" := ⟨"HeldCoats$Reader", "word", Or.inl q486, List.forall_mem_cons.mpr ⟨⟨RX7, TX7, 11, rfl, by decide, rfl, rfl, Or.inl rfl⟩, List.forall_mem_cons.mpr ⟨⟨RX19, TX19, 11, rfl, by decide, rfl, rfl, Or.inl rfl⟩, List.forall_mem_cons.mpr ⟨⟨RX21, TX21, 12, rfl, by decide, rfl, rfl, Or.inl rfl⟩, fun _ h => absurd h List.not_mem_nil⟩⟩⟩, by decide⟩
theorem fp_X6_i_6_8_16_8_18_8 : cz_FP "HeldCoats$Reader" "<init>" [(6, 8), (16, 8), (18, 8)] := List.forall_mem_cons.mpr ⟨⟨RX7, TX7, 11, rfl, Or.inl rfl⟩, List.forall_mem_cons.mpr ⟨⟨RX19, TX19, 11, rfl, Or.inl rfl⟩, List.forall_mem_cons.mpr ⟨⟨RX21, TX21, 12, rfl, Or.inl rfl⟩, fun _ h => absurd h List.not_mem_nil⟩⟩⟩
theorem pd_Ljava_lang_String_ : parseFieldDescriptor "Ljava/lang/String;" = some (.object "java/lang/String") := by decide +kernel
theorem fw_X6_17 : cz_FW "HeldCoats$Reader" 17 [(6, 0), (16, 0), (18, 0)] "[B" := ⟨"HeldCoats$Reader", "tape", Or.inl q470, List.forall_mem_cons.mpr ⟨⟨RX7, TX7, 11, rfl, by decide, rfl, rfl, Or.inl rfl⟩, List.forall_mem_cons.mpr ⟨⟨RX19, TX19, 11, rfl, by decide, rfl, rfl, Or.inl rfl⟩, List.forall_mem_cons.mpr ⟨⟨RX21, TX21, 12, rfl, by decide, rfl, rfl, Or.inl rfl⟩, fun _ h => absurd h List.not_mem_nil⟩⟩⟩, by decide⟩
theorem fp_X6_i_6_0_16_0_18_0 : cz_FP "HeldCoats$Reader" "<init>" [(6, 0), (16, 0), (18, 0)] := List.forall_mem_cons.mpr ⟨⟨RX7, TX7, 11, rfl, Or.inr ⟨rfl, rfl, rfl⟩⟩, List.forall_mem_cons.mpr ⟨⟨RX19, TX19, 11, rfl, Or.inr ⟨rfl, rfl, rfl⟩⟩, List.forall_mem_cons.mpr ⟨⟨RX21, TX21, 12, rfl, Or.inr ⟨rfl, rfl, rfl⟩⟩, fun _ h => absurd h List.not_mem_nil⟩⟩⟩
theorem fw_X6_21 : cz_FW "HeldCoats$Reader" 21 [(6, 1), (16, 1), (18, 1)] "I" := ⟨"HeldCoats$Reader", "size", Or.inl q471, List.forall_mem_cons.mpr ⟨⟨RX7, TX7, 11, rfl, by decide, rfl, rfl, Or.inl rfl⟩, List.forall_mem_cons.mpr ⟨⟨RX19, TX19, 11, rfl, by decide, rfl, rfl, Or.inl rfl⟩, List.forall_mem_cons.mpr ⟨⟨RX21, TX21, 12, rfl, by decide, rfl, rfl, Or.inl rfl⟩, fun _ h => absurd h List.not_mem_nil⟩⟩⟩, by decide⟩
theorem fp_X6_i_6_1_16_1_18_1 : cz_FP "HeldCoats$Reader" "<init>" [(6, 1), (16, 1), (18, 1)] := List.forall_mem_cons.mpr ⟨⟨RX7, TX7, 11, rfl, Or.inr ⟨rfl, rfl, rfl⟩⟩, List.forall_mem_cons.mpr ⟨⟨RX19, TX19, 11, rfl, Or.inr ⟨rfl, rfl, rfl⟩⟩, List.forall_mem_cons.mpr ⟨⟨RX21, TX21, 12, rfl, Or.inr ⟨rfl, rfl, rfl⟩⟩, fun _ h => absurd h List.not_mem_nil⟩⟩⟩
theorem fw_X6_25 : cz_FW "HeldCoats$Reader" 25 [(6, 2), (16, 2), (18, 2)] "I" := ⟨"HeldCoats$Reader", "limit", Or.inl q472, List.forall_mem_cons.mpr ⟨⟨RX7, TX7, 11, rfl, by decide, rfl, rfl, Or.inl rfl⟩, List.forall_mem_cons.mpr ⟨⟨RX19, TX19, 11, rfl, by decide, rfl, rfl, Or.inl rfl⟩, List.forall_mem_cons.mpr ⟨⟨RX21, TX21, 12, rfl, by decide, rfl, rfl, Or.inl rfl⟩, fun _ h => absurd h List.not_mem_nil⟩⟩⟩, by decide⟩
theorem fp_X6_i_6_2_16_2_18_2 : cz_FP "HeldCoats$Reader" "<init>" [(6, 2), (16, 2), (18, 2)] := List.forall_mem_cons.mpr ⟨⟨RX7, TX7, 11, rfl, Or.inr ⟨rfl, rfl, rfl⟩⟩, List.forall_mem_cons.mpr ⟨⟨RX19, TX19, 11, rfl, Or.inr ⟨rfl, rfl, rfl⟩⟩, List.forall_mem_cons.mpr ⟨⟨RX21, TX21, 12, rfl, Or.inr ⟨rfl, rfl, rfl⟩⟩, fun _ h => absurd h List.not_mem_nil⟩⟩⟩
set_option maxHeartbeats 4000000 in
set_option maxRecDepth 100000 in
noncomputable def fn_X6_init (l0 : Option Nat) (l1 : Option Nat) (l2 : Int32) (l3 : Int32) (h : cz_H) : cz_Z := cz_nn' l0 (cz_put h l0 [(6, 8), (16, 8), (18, 8)] (cz_r (h.1.2.2.2 0)) (fun h1 => cz_put h1 l0 [(6, 0), (16, 0), (18, 0)] (cz_r l1) (fun h2 => cz_put h2 l0 [(6, 1), (16, 1), (18, 1)] (cz_i l2) (fun h3 => cz_put h3 l0 [(6, 2), (16, 2), (18, 2)] (cz_i l3) (fun h4 => some (.inl none, h4))))))
set_option maxHeartbeats 4000000 in
set_option maxRecDepth 100000 in
theorem wk_X6_init {K : cz_K} {D : cz_D} {h0 : cz_H} {oh : cz_O × cz_H} {l0 : Option Nat} {l1 : Option Nat} {l2 : Int32} {l3 : Int32} {h : cz_H} (S : cz_S K D h0 cX6_init 4 "HeldCoats$Reader" ((Option.none : Option Jvm.ClassFile.FieldType)) "<init>" ([])) : cz_T K D 3 h0 oh 4 (fn_X6_init l0 l1 l2 l3 h) h 0 [(0, cz_r l0), (1, cz_r l1), (2, cz_i l2), (3, cz_i l3)] [] := by
  unfold fn_X6_init
  refine ct_aload_n (k := 0) S dX6_init_0 rfl rfl ?_
  refine ct_oinit S q464 q165 q166 (by decide) (Nat.le_of_ble_eq_true rfl) dX6_init_1 ?_
  refine ct_aload_n (k := 0) S dX6_init_4 rfl rfl ?_
  refine ct_ldcS (i := 0) S rfl dX6_init_5 ?_
  refine ct_put S fw_X6_11 fp_X6_i_6_8_16_8_18_8 (cz_fits_r pd_Ljava_lang_String_) dX6_init_7 (fun h1 => ?_)
  refine ct_aload_n (k := 0) S dX6_init_10 rfl rfl ?_
  refine ct_aload_n (k := 1) S dX6_init_11 rfl rfl ?_
  refine ct_put S fw_X6_17 fp_X6_i_6_0_16_0_18_0 (cz_fits_a pd__B) dX6_init_12 (fun h2 => ?_)
  refine ct_aload_n (k := 0) S dX6_init_15 rfl rfl ?_
  refine ct_iload_n (k := 2) S dX6_init_16 rfl rfl ?_
  refine ct_put S fw_X6_21 fp_X6_i_6_1_16_1_18_1 (cz_fits_i pd_I) dX6_init_17 (fun h3 => ?_)
  refine ct_aload_n (k := 0) S dX6_init_20 rfl rfl ?_
  refine ct_iload_n (k := 3) S dX6_init_21 rfl rfl ?_
  refine ct_put S fw_X6_25 fp_X6_i_6_2_16_2_18_2 (cz_fits_i pd_I) dX6_init_22 (fun h4 => ?_)
  exact ct_vret S rfl dX6_init_25
theorem mt_X6_init {l : Launch} {D : cz_D} {l0 : Option Nat} {l1 : Option Nat} {l2 : Int32} {l3 : Int32} {h : cz_H} {oh : cz_O × cz_H} (hz : fn_X6_init l0 l1 l2 l3 h = some oh) : cz_M l D yX6_init (ws_ yX6_init cX6_init 4 ((Option.none : Option Jvm.ClassFile.FieldType))) 3 [cz_r l0, cz_r l1, cz_i l2, cz_i l3] h oh := cz_met (plainFor_of_name (by decide)) (Nat.le_of_ble_eq_true rfl) hz (fun K hl S => wk_X6_init S)
/-! HeldCoats$BookReader.<init>([BILHeldCoats$Capital;)V -/
def dkwX19_init_1 : List UInt8 := [181, 0, 20, 177]
abbrev dktX19_init_1 : List UInt8 := dkwX19_init_1 ++ []
def dkwX19_init_0 : List UInt8 := [42, 43, 28, 17, 1, 144, 183, 0, 3, 42, 187, 0, 9, 89, 183, 0, 11, 181, 0, 14, 42, 45]
abbrev dktX19_init_0 : List UInt8 := dkwX19_init_0 ++ dktX19_init_1
theorem dksX19_init_0 : cX19_init.data.toList.drop 0 = dktX19_init_0 := by decide +kernel
theorem dksX19_init_1 : cX19_init.data.toList.drop 22 = dktX19_init_1 := dk_seg dksX19_init_0 22 rfl rfl
theorem dX19_init_0 : decode cX19_init 0 = .ok (.aload_n 0, 1) := dk_42 (dk_at dksX19_init_0 0 rfl rfl)
theorem dX19_init_1 : decode cX19_init 1 = .ok (.aload_n 1, 1) := dk_43 (dk_at dksX19_init_0 1 rfl rfl)
theorem dX19_init_2 : decode cX19_init 2 = .ok (.iload_n 2, 1) := dk_28 (dk_at dksX19_init_0 2 rfl rfl)
theorem dX19_init_3 : decode cX19_init 3 = .ok (.sipush 400, 3) := dk_17 1 144 (dk_at dksX19_init_0 3 rfl rfl)
theorem dX19_init_6 : decode cX19_init 6 = .ok (.invokespecial 3, 3) := dk_183 0 3 (dk_at dksX19_init_0 6 rfl rfl)
theorem dX19_init_9 : decode cX19_init 9 = .ok (.aload_n 0, 1) := dk_42 (dk_at dksX19_init_0 9 rfl rfl)
theorem dX19_init_10 : decode cX19_init 10 = .ok (.new 9, 3) := dk_187 0 9 (dk_at dksX19_init_0 10 rfl rfl)
theorem dX19_init_13 : decode cX19_init 13 = .ok (.dup, 1) := dk_89 (dk_at dksX19_init_0 13 rfl rfl)
theorem dX19_init_14 : decode cX19_init 14 = .ok (.invokespecial 11, 3) := dk_183 0 11 (dk_at dksX19_init_0 14 rfl rfl)
theorem dX19_init_17 : decode cX19_init 17 = .ok (.putfield 14, 3) := dk_181 0 14 (dk_at dksX19_init_0 17 rfl rfl)
theorem dX19_init_20 : decode cX19_init 20 = .ok (.aload_n 0, 1) := dk_42 (dk_at dksX19_init_0 20 rfl rfl)
theorem dX19_init_21 : decode cX19_init 21 = .ok (.aload_n 3, 1) := dk_45 (dk_at dksX19_init_0 21 rfl rfl)
theorem dX19_init_22 : decode cX19_init 22 = .ok (.putfield 20, 3) := dk_181 0 20 (dk_at dksX19_init_1 0 rfl rfl)
theorem dX19_init_25 : decode cX19_init 25 = .ok (.return_, 1) := dk_177 (dk_at dksX19_init_1 3 rfl rfl)
theorem nh_HeldCoats_Reader__init____BII_V : cz_nh ⟨"HeldCoats$Reader", "<init>", "([BII)V"⟩ 3 := ⟨by decide, by decide, by decide +kernel⟩
theorem nh_java_util_ArrayList__init____V : cz_nh ⟨"java/util/ArrayList", "<init>", "()V"⟩ 0 := ⟨by decide, by decide, by decide +kernel⟩
theorem fw_X19_14 : cz_FW "HeldCoats$BookReader" 14 [(16, 10)] "Ljava/util/ArrayList;" := ⟨"HeldCoats$BookReader", "acts", Or.inl q1533, List.forall_mem_cons.mpr ⟨⟨RX19, TX19, 11, rfl, by decide, rfl, rfl, Or.inl rfl⟩, fun _ h => absurd h List.not_mem_nil⟩, by decide⟩
theorem fp_X19_i_16_10 : cz_FP "HeldCoats$BookReader" "<init>" [(16, 10)] := List.forall_mem_cons.mpr ⟨⟨RX19, TX19, 11, rfl, Or.inr ⟨rfl, rfl, rfl⟩⟩, fun _ h => absurd h List.not_mem_nil⟩
theorem pd_Ljava_util_ArrayList_ : parseFieldDescriptor "Ljava/util/ArrayList;" = some (.object "java/util/ArrayList") := by decide +kernel
theorem fw_X19_20 : cz_FW "HeldCoats$BookReader" 20 [(16, 9)] "LHeldCoats$Capital;" := ⟨"HeldCoats$BookReader", "c", Or.inl q1532, List.forall_mem_cons.mpr ⟨⟨RX19, TX19, 11, rfl, by decide, rfl, rfl, Or.inl rfl⟩, fun _ h => absurd h List.not_mem_nil⟩, by decide⟩
theorem fp_X19_i_16_9 : cz_FP "HeldCoats$BookReader" "<init>" [(16, 9)] := List.forall_mem_cons.mpr ⟨⟨RX19, TX19, 11, rfl, Or.inr ⟨rfl, rfl, rfl⟩⟩, fun _ h => absurd h List.not_mem_nil⟩
set_option maxHeartbeats 4000000 in
set_option maxRecDepth 100000 in
noncomputable def fn_X19_init (l0 : Option Nat) (l1 : Option Nat) (l2 : Int32) (l3 : Option Nat) (h : cz_H) : cz_Z := cz_nn' l0 (cz_cV (fn_X6_init l0 l1 l2 400 h) (fun h3 => cz_newo h3 2 3 (fun r4 h5 => cz_nn' r4 (cz_cV (fn_J2_init r4 h5) (fun h8 => cz_put h8 l0 [(16, 10)] (cz_r r4) (fun h9 => cz_put h9 l0 [(16, 9)] (cz_r l3) (fun h10 => some (.inl none, h10))))))))
set_option maxHeartbeats 4000000 in
set_option maxRecDepth 100000 in
theorem wk_X19_init {K : cz_K} {D : cz_D} {h0 : cz_H} {oh : cz_O × cz_H} {l0 : Option Nat} {l1 : Option Nat} {l2 : Int32} {l3 : Option Nat} {h : cz_H} (S : cz_S K D h0 cX19_init 4 "HeldCoats$BookReader" ((Option.none : Option Jvm.ClassFile.FieldType)) "<init>" ([])) : cz_T K D 6 h0 oh 4 (fn_X19_init l0 l1 l2 l3 h) h 0 [(0, cz_r l0), (1, cz_r l1), (2, cz_i l2), (3, cz_r l3)] [] := by
  unfold fn_X19_init
  refine ct_aload_n (k := 0) S dX19_init_0 rfl rfl ?_
  refine ct_aload_n (k := 1) S dX19_init_1 rfl rfl ?_
  refine ct_iload_n (k := 2) S dX19_init_2 rfl rfl ?_
  refine ct_sipush (v := 400) S dX19_init_3 kS_400 ?_
  refine ct_nn (fun b1 hb2 => ?_)
  refine ct_cV (st := []) (cg_init (av := [cz_r l1, cz_i l2, cz_i 400]) S hb2 (fun _ e => mt_X6_init e) q463 (Or.inl q1529) rfl q462 q124 nh_HeldCoats_Reader__init____BII_V (by decide) (by decide) (Nat.le_of_ble_eq_true rfl) rfl dX19_init_6) (fun h3 => ?_)
  refine ct_aload_n (k := 0) S dX19_init_9 rfl rfl ?_
  refine ct_newo S (by decide) cz_cl2 q1530 dX19_init_10 (fun r4 h5 => ?_)
  refine ct_dup S dX19_init_13 rfl ?_
  refine ct_nn (fun b6 hb7 => ?_)
  refine ct_cV (st := [cz_r r4, cz_r l0]) (cg_init (av := []) S hb7 (fun _ e => mt_J2_init e) q177 (Or.inl q1531) rfl q176 q117 nh_java_util_ArrayList__init____V (by decide) (by decide) (Nat.le_of_ble_eq_true rfl) rfl dX19_init_14) (fun h8 => ?_)
  refine ct_put S fw_X19_14 fp_X19_i_16_10 (cz_fits_r pd_Ljava_util_ArrayList_) dX19_init_17 (fun h9 => ?_)
  refine ct_aload_n (k := 0) S dX19_init_20 rfl rfl ?_
  refine ct_aload_n (k := 3) S dX19_init_21 rfl rfl ?_
  refine ct_put S fw_X19_20 fp_X19_i_16_9 (cz_fits_r pd_LHeldCoats_Capital_) dX19_init_22 (fun h10 => ?_)
  exact ct_vret S rfl dX19_init_25
theorem mt_X19_init {l : Launch} {D : cz_D} {l0 : Option Nat} {l1 : Option Nat} {l2 : Int32} {l3 : Option Nat} {h : cz_H} {oh : cz_O × cz_H} (hz : fn_X19_init l0 l1 l2 l3 h = some oh) : cz_M l D yX19_init (ws_ yX19_init cX19_init 4 ((Option.none : Option Jvm.ClassFile.FieldType))) 6 [cz_r l0, cz_r l1, cz_i l2, cz_r l3] h oh := cz_met (plainFor_of_name (by decide)) (Nat.le_of_ble_eq_true rfl) hz (fun K hl S => wk_X19_init S)
/-! jdk/internal/util/ArraysSupport.hugeLength(II)I -/
def dkwJ10_hugeLength_2 : List UInt8 := [191, 28, 18, 200, 163, 0, 6, 18, 200, 172, 28, 172]
abbrev dktJ10_hugeLength_2 : List UInt8 := dkwJ10_hugeLength_2 ++ []
def dkwJ10_hugeLength_1 : List UInt8 := [26, 182, 0, 98, 18, 208, 182, 0, 94, 27, 182, 0, 98, 18, 210, 182, 0, 94, 182, 0, 101, 183, 0, 212]
abbrev dktJ10_hugeLength_1 : List UInt8 := dkwJ10_hugeLength_1 ++ dktJ10_hugeLength_2
def dkwJ10_hugeLength_0 : List UInt8 := [26, 27, 96, 61, 28, 156, 0, 44, 187, 0, 204, 89, 187, 0, 89, 89, 183, 0, 91, 18, 206, 182, 0, 94]
abbrev dktJ10_hugeLength_0 : List UInt8 := dkwJ10_hugeLength_0 ++ dktJ10_hugeLength_1
theorem dksJ10_hugeLength_0 : cJ10_hugeLength.data.toList.drop 0 = dktJ10_hugeLength_0 := by decide +kernel
theorem dksJ10_hugeLength_1 : cJ10_hugeLength.data.toList.drop 24 = dktJ10_hugeLength_1 := dk_seg dksJ10_hugeLength_0 24 rfl rfl
theorem dksJ10_hugeLength_2 : cJ10_hugeLength.data.toList.drop 48 = dktJ10_hugeLength_2 := dk_seg dksJ10_hugeLength_1 24 rfl rfl
theorem dJ10_hugeLength_0 : decode cJ10_hugeLength 0 = .ok (.iload_n 0, 1) := dk_26 (dk_at dksJ10_hugeLength_0 0 rfl rfl)
theorem dJ10_hugeLength_1 : decode cJ10_hugeLength 1 = .ok (.iload_n 1, 1) := dk_27 (dk_at dksJ10_hugeLength_0 1 rfl rfl)
theorem dJ10_hugeLength_2 : decode cJ10_hugeLength 2 = .ok (.iadd, 1) := dk_96 (dk_at dksJ10_hugeLength_0 2 rfl rfl)
theorem dJ10_hugeLength_3 : decode cJ10_hugeLength 3 = .ok (.istore_n 2, 1) := dk_61 (dk_at dksJ10_hugeLength_0 3 rfl rfl)
theorem dJ10_hugeLength_4 : decode cJ10_hugeLength 4 = .ok (.iload_n 2, 1) := dk_28 (dk_at dksJ10_hugeLength_0 4 rfl rfl)
theorem dJ10_hugeLength_5 : decode cJ10_hugeLength 5 = .ok (.ifCond .ge 44, 3) := dk_156 0 44 (dk_at dksJ10_hugeLength_0 5 rfl rfl)
theorem dJ10_hugeLength_8 : decode cJ10_hugeLength 8 = .ok (.new 204, 3) := dk_187 0 204 (dk_at dksJ10_hugeLength_0 8 rfl rfl)
theorem dJ10_hugeLength_11 : decode cJ10_hugeLength 11 = .ok (.dup, 1) := dk_89 (dk_at dksJ10_hugeLength_0 11 rfl rfl)
theorem dJ10_hugeLength_12 : decode cJ10_hugeLength 12 = .ok (.new 89, 3) := dk_187 0 89 (dk_at dksJ10_hugeLength_0 12 rfl rfl)
theorem dJ10_hugeLength_15 : decode cJ10_hugeLength 15 = .ok (.dup, 1) := dk_89 (dk_at dksJ10_hugeLength_0 15 rfl rfl)
theorem dJ10_hugeLength_16 : decode cJ10_hugeLength 16 = .ok (.invokespecial 91, 3) := dk_183 0 91 (dk_at dksJ10_hugeLength_0 16 rfl rfl)
theorem dJ10_hugeLength_19 : decode cJ10_hugeLength 19 = .ok (.ldc 206, 2) := dk_18 206 (dk_at dksJ10_hugeLength_0 19 rfl rfl)
theorem dJ10_hugeLength_21 : decode cJ10_hugeLength 21 = .ok (.invokevirtual 94, 3) := dk_182 0 94 (dk_at dksJ10_hugeLength_0 21 rfl rfl)
theorem dJ10_hugeLength_24 : decode cJ10_hugeLength 24 = .ok (.iload_n 0, 1) := dk_26 (dk_at dksJ10_hugeLength_1 0 rfl rfl)
theorem dJ10_hugeLength_25 : decode cJ10_hugeLength 25 = .ok (.invokevirtual 98, 3) := dk_182 0 98 (dk_at dksJ10_hugeLength_1 1 rfl rfl)
theorem dJ10_hugeLength_28 : decode cJ10_hugeLength 28 = .ok (.ldc 208, 2) := dk_18 208 (dk_at dksJ10_hugeLength_1 4 rfl rfl)
theorem dJ10_hugeLength_30 : decode cJ10_hugeLength 30 = .ok (.invokevirtual 94, 3) := dk_182 0 94 (dk_at dksJ10_hugeLength_1 6 rfl rfl)
theorem dJ10_hugeLength_33 : decode cJ10_hugeLength 33 = .ok (.iload_n 1, 1) := dk_27 (dk_at dksJ10_hugeLength_1 9 rfl rfl)
theorem dJ10_hugeLength_34 : decode cJ10_hugeLength 34 = .ok (.invokevirtual 98, 3) := dk_182 0 98 (dk_at dksJ10_hugeLength_1 10 rfl rfl)
theorem dJ10_hugeLength_37 : decode cJ10_hugeLength 37 = .ok (.ldc 210, 2) := dk_18 210 (dk_at dksJ10_hugeLength_1 13 rfl rfl)
theorem dJ10_hugeLength_39 : decode cJ10_hugeLength 39 = .ok (.invokevirtual 94, 3) := dk_182 0 94 (dk_at dksJ10_hugeLength_1 15 rfl rfl)
theorem dJ10_hugeLength_42 : decode cJ10_hugeLength 42 = .ok (.invokevirtual 101, 3) := dk_182 0 101 (dk_at dksJ10_hugeLength_1 18 rfl rfl)
theorem dJ10_hugeLength_45 : decode cJ10_hugeLength 45 = .ok (.invokespecial 212, 3) := dk_183 0 212 (dk_at dksJ10_hugeLength_1 21 rfl rfl)
theorem dJ10_hugeLength_48 : decode cJ10_hugeLength 48 = .ok (.athrow, 1) := dk_191 (dk_at dksJ10_hugeLength_2 0 rfl rfl)
theorem dJ10_hugeLength_49 : decode cJ10_hugeLength 49 = .ok (.iload_n 2, 1) := dk_28 (dk_at dksJ10_hugeLength_2 1 rfl rfl)
theorem dJ10_hugeLength_50 : decode cJ10_hugeLength 50 = .ok (.ldc 200, 2) := dk_18 200 (dk_at dksJ10_hugeLength_2 2 rfl rfl)
theorem dJ10_hugeLength_52 : decode cJ10_hugeLength 52 = .ok (.if_icmp .gt 6, 3) := dk_163 0 6 (dk_at dksJ10_hugeLength_2 4 rfl rfl)
theorem dJ10_hugeLength_55 : decode cJ10_hugeLength 55 = .ok (.ldc 200, 2) := dk_18 200 (dk_at dksJ10_hugeLength_2 7 rfl rfl)
theorem dJ10_hugeLength_57 : decode cJ10_hugeLength 57 = .ok (.ireturn, 1) := dk_172 (dk_at dksJ10_hugeLength_2 9 rfl rfl)
theorem dJ10_hugeLength_58 : decode cJ10_hugeLength 58 = .ok (.iload_n 2, 1) := dk_28 (dk_at dksJ10_hugeLength_2 10 rfl rfl)
theorem dJ10_hugeLength_59 : decode cJ10_hugeLength 59 = .ok (.ireturn, 1) := dk_172 (dk_at dksJ10_hugeLength_2 11 rfl rfl)
set_option maxHeartbeats 4000000 in
set_option maxRecDepth 100000 in
noncomputable def fn_J10_hugeLength (l0 : Int32) (l1 : Int32) (h : cz_H) : cz_Z := cz_leti (l0 + l1) (fun x1 => (if 0 ≤ x1 then (if (2147483639 : Int32) < x1 then some (.inl (some (cz_i x1)), h) else some (.inl (some (cz_i 2147483639)), h)) else none))
set_option maxHeartbeats 4000000 in
set_option maxRecDepth 100000 in
theorem wk_J10_hugeLength {K : cz_K} {D : cz_D} {h0 : cz_H} {oh : cz_O × cz_H} {l0 : Int32} {l1 : Int32} {h : cz_H} (S : cz_S K D h0 cJ10_hugeLength 3 "jdk/internal/util/ArraysSupport" ((Option.some Jvm.ClassFile.FieldType.int)) "hugeLength" ([])) : cz_T K D 2 h0 oh 3 (fn_J10_hugeLength l0 l1 h) h 0 [(0, cz_i l0), (1, cz_i l1)] [] := by
  unfold fn_J10_hugeLength
  refine ct_iload_n (k := 0) S dJ10_hugeLength_0 rfl rfl ?_
  refine ct_iload_n (k := 1) S dJ10_hugeLength_1 rfl rfl ?_
  refine ct_iadd S dJ10_hugeLength_2 ?_
  refine ct_leti (fun x1 => ?_)
  refine ct_istore_n (L' := [(2, cz_i x1), (0, cz_i l0), (1, cz_i l1)]) S dJ10_hugeLength_3 rfl (by decide) rfl ?_
  refine ct_iload_n (k := 0) S dJ10_hugeLength_4 rfl rfl ?_
  refine ct_if_ge (tgt := 49) S dJ10_hugeLength_5 (by decide) ?_ ?_
  · refine ct_iload_n (k := 0) S dJ10_hugeLength_49 rfl rfl ?_
    refine ct_ldc S q584 dJ10_hugeLength_50 ?_
    refine ct_icmp_gt (tgt := 58) S dJ10_hugeLength_52 (by decide) ?_ ?_
    · refine ct_iload_n (k := 0) S dJ10_hugeLength_58 rfl rfl ?_
      exact ct_iret S rfl dJ10_hugeLength_59
    · refine ct_ldc S q584 dJ10_hugeLength_55 ?_
      exact ct_iret S rfl dJ10_hugeLength_57
  · exact ct_none
theorem mt_J10_hugeLength {l : Launch} {D : cz_D} {l0 : Int32} {l1 : Int32} {h : cz_H} {oh : cz_O × cz_H} (hz : fn_J10_hugeLength l0 l1 h = some oh) : cz_M l D yJ10_hugeLength (ws_ yJ10_hugeLength cJ10_hugeLength 3 ((Option.some Jvm.ClassFile.FieldType.int))) 2 [cz_i l0, cz_i l1] h oh := cz_met (plainFor_of_name (by decide)) (Nat.le_of_ble_eq_true rfl) hz (fun K hl S => wk_J10_hugeLength S)
/-! jdk/internal/util/ArraysSupport.newLength(III)I -/
def dkwJ10_newLength_1 : List UInt8 := [184, 0, 201, 172]
abbrev dktJ10_newLength_1 : List UInt8 := dkwJ10_newLength_1 ++ []
def dkwJ10_newLength_0 : List UInt8 := [26, 27, 28, 184, 0, 194, 96, 62, 3, 29, 162, 0, 11, 29, 18, 200, 163, 0, 5, 29, 172, 26, 27]
abbrev dktJ10_newLength_0 : List UInt8 := dkwJ10_newLength_0 ++ dktJ10_newLength_1
theorem dksJ10_newLength_0 : cJ10_newLength.data.toList.drop 0 = dktJ10_newLength_0 := by decide +kernel
theorem dksJ10_newLength_1 : cJ10_newLength.data.toList.drop 23 = dktJ10_newLength_1 := dk_seg dksJ10_newLength_0 23 rfl rfl
theorem dJ10_newLength_0 : decode cJ10_newLength 0 = .ok (.iload_n 0, 1) := dk_26 (dk_at dksJ10_newLength_0 0 rfl rfl)
theorem dJ10_newLength_1 : decode cJ10_newLength 1 = .ok (.iload_n 1, 1) := dk_27 (dk_at dksJ10_newLength_0 1 rfl rfl)
theorem dJ10_newLength_2 : decode cJ10_newLength 2 = .ok (.iload_n 2, 1) := dk_28 (dk_at dksJ10_newLength_0 2 rfl rfl)
theorem dJ10_newLength_3 : decode cJ10_newLength 3 = .ok (.invokestatic 194, 3) := dk_184 0 194 (dk_at dksJ10_newLength_0 3 rfl rfl)
theorem dJ10_newLength_6 : decode cJ10_newLength 6 = .ok (.iadd, 1) := dk_96 (dk_at dksJ10_newLength_0 6 rfl rfl)
theorem dJ10_newLength_7 : decode cJ10_newLength 7 = .ok (.istore_n 3, 1) := dk_62 (dk_at dksJ10_newLength_0 7 rfl rfl)
theorem dJ10_newLength_8 : decode cJ10_newLength 8 = .ok (.iconst 0, 1) := dk_3 (dk_at dksJ10_newLength_0 8 rfl rfl)
theorem dJ10_newLength_9 : decode cJ10_newLength 9 = .ok (.iload_n 3, 1) := dk_29 (dk_at dksJ10_newLength_0 9 rfl rfl)
theorem dJ10_newLength_10 : decode cJ10_newLength 10 = .ok (.if_icmp .ge 11, 3) := dk_162 0 11 (dk_at dksJ10_newLength_0 10 rfl rfl)
theorem dJ10_newLength_13 : decode cJ10_newLength 13 = .ok (.iload_n 3, 1) := dk_29 (dk_at dksJ10_newLength_0 13 rfl rfl)
theorem dJ10_newLength_14 : decode cJ10_newLength 14 = .ok (.ldc 200, 2) := dk_18 200 (dk_at dksJ10_newLength_0 14 rfl rfl)
theorem dJ10_newLength_16 : decode cJ10_newLength 16 = .ok (.if_icmp .gt 5, 3) := dk_163 0 5 (dk_at dksJ10_newLength_0 16 rfl rfl)
theorem dJ10_newLength_19 : decode cJ10_newLength 19 = .ok (.iload_n 3, 1) := dk_29 (dk_at dksJ10_newLength_0 19 rfl rfl)
theorem dJ10_newLength_20 : decode cJ10_newLength 20 = .ok (.ireturn, 1) := dk_172 (dk_at dksJ10_newLength_0 20 rfl rfl)
theorem dJ10_newLength_21 : decode cJ10_newLength 21 = .ok (.iload_n 0, 1) := dk_26 (dk_at dksJ10_newLength_0 21 rfl rfl)
theorem dJ10_newLength_22 : decode cJ10_newLength 22 = .ok (.iload_n 1, 1) := dk_27 (dk_at dksJ10_newLength_0 22 rfl rfl)
theorem dJ10_newLength_23 : decode cJ10_newLength 23 = .ok (.invokestatic 201, 3) := dk_184 0 201 (dk_at dksJ10_newLength_1 0 rfl rfl)
theorem dJ10_newLength_26 : decode cJ10_newLength 26 = .ok (.ireturn, 1) := dk_172 (dk_at dksJ10_newLength_1 3 rfl rfl)
theorem md_J10_hugeLength : cz_md yJ10_hugeLength 3 (ws_ yJ10_hugeLength cJ10_hugeLength 3 ((Option.some Jvm.ClassFile.FieldType.int))) 2 := ⟨cz_ws_code q587, q130, ⟨by decide, by decide, by decide +kernel⟩, by decide⟩
set_option maxHeartbeats 4000000 in
set_option maxRecDepth 100000 in
noncomputable def fn_J10_newLength (l0 : Int32) (l1 : Int32) (l2 : Int32) (h : cz_H) : cz_Z := cz_cI (fn_J11_max l1 l2 h) (fun x2 h1 => cz_leti (l0 + x2) (fun x3 => (if x3 ≤ 0 then cz_cI (fn_J10_hugeLength l0 l1 h1) (fun x5 h4 => some (.inl (some (cz_i x5)), h4)) else (if (2147483639 : Int32) < x3 then cz_cI (fn_J10_hugeLength l0 l1 h1) (fun x7 h6 => some (.inl (some (cz_i x7)), h6)) else some (.inl (some (cz_i x3)), h1)))))
set_option maxHeartbeats 4000000 in
set_option maxRecDepth 100000 in
theorem wk_J10_newLength {K : cz_K} {D : cz_D} {h0 : cz_H} {oh : cz_O × cz_H} {l0 : Int32} {l1 : Int32} {l2 : Int32} {h : cz_H} (S : cz_S K D h0 cJ10_newLength 4 "jdk/internal/util/ArraysSupport" ((Option.some Jvm.ClassFile.FieldType.int)) "newLength" ([])) : cz_T K D 3 h0 oh 4 (fn_J10_newLength l0 l1 l2 h) h 0 [(0, cz_i l0), (1, cz_i l1), (2, cz_i l2)] [] := by
  unfold fn_J10_newLength
  refine ct_iload_n (k := 0) S dJ10_newLength_0 rfl rfl ?_
  refine ct_iload_n (k := 1) S dJ10_newLength_1 rfl rfl ?_
  refine ct_iload_n (k := 2) S dJ10_newLength_2 rfl rfl ?_
  refine ct_cI (st := [cz_i l0]) (cg_static (av := [cz_i l1, cz_i l2]) S (fun _ e => mt_J11_max e) md_J11_max (Or.inl q581) q582 (by decide) (Nat.le_of_ble_eq_true rfl) rfl dJ10_newLength_3) (fun x2 h1 => ?_)
  refine ct_iadd S dJ10_newLength_6 ?_
  refine ct_leti (fun x3 => ?_)
  refine ct_istore_n (L' := [(3, cz_i x3), (0, cz_i l0), (1, cz_i l1), (2, cz_i l2)]) S dJ10_newLength_7 rfl (by decide) rfl ?_
  refine ct_iconst (v := 0) S dJ10_newLength_8 kI_0 ?_
  refine ct_iload_n (k := 0) S dJ10_newLength_9 rfl rfl ?_
  refine ct_icmp_ge (tgt := 21) S dJ10_newLength_10 (by decide) ?_ ?_
  · refine ct_iload_n (k := 1) S dJ10_newLength_21 rfl rfl ?_
    refine ct_iload_n (k := 2) S dJ10_newLength_22 rfl rfl ?_
    refine ct_cI (st := []) (cg_static (av := [cz_i l0, cz_i l1]) S (fun _ e => mt_J10_hugeLength e) md_J10_hugeLength (Or.inl q585) q586 (by decide) (Nat.le_of_ble_eq_true rfl) rfl dJ10_newLength_23) (fun x5 h4 => ?_)
    exact ct_iret S rfl dJ10_newLength_26
  · refine ct_iload_n (k := 0) S dJ10_newLength_13 rfl rfl ?_
    refine ct_ldc S q584 dJ10_newLength_14 ?_
    refine ct_icmp_gt (tgt := 21) S dJ10_newLength_16 (by decide) ?_ ?_
    · refine ct_iload_n (k := 1) S dJ10_newLength_21 rfl rfl ?_
      refine ct_iload_n (k := 2) S dJ10_newLength_22 rfl rfl ?_
      refine ct_cI (st := []) (cg_static (av := [cz_i l0, cz_i l1]) S (fun _ e => mt_J10_hugeLength e) md_J10_hugeLength (Or.inl q585) q586 (by decide) (Nat.le_of_ble_eq_true rfl) rfl dJ10_newLength_23) (fun x7 h6 => ?_)
      exact ct_iret S rfl dJ10_newLength_26
    · refine ct_iload_n (k := 0) S dJ10_newLength_19 rfl rfl ?_
      exact ct_iret S rfl dJ10_newLength_20
theorem mt_J10_newLength {l : Launch} {D : cz_D} {l0 : Int32} {l1 : Int32} {l2 : Int32} {h : cz_H} {oh : cz_O × cz_H} (hz : fn_J10_newLength l0 l1 l2 h = some oh) : cz_M l D yJ10_newLength (ws_ yJ10_newLength cJ10_newLength 4 ((Option.some Jvm.ClassFile.FieldType.int))) 3 [cz_i l0, cz_i l1, cz_i l2] h oh := cz_met (plainFor_of_name (by decide)) (Nat.le_of_ble_eq_true rfl) hz (fun K hl S => wk_J10_newLength S)
/-! java/lang/Math.min(II)I -/
def dkwJ11_min_0 : List UInt8 := [26, 27, 163, 0, 7, 26, 167, 0, 4, 27, 172]
abbrev dktJ11_min_0 : List UInt8 := dkwJ11_min_0 ++ []
theorem dksJ11_min_0 : cJ11_min.data.toList.drop 0 = dktJ11_min_0 := by decide +kernel
theorem dJ11_min_0 : decode cJ11_min 0 = .ok (.iload_n 0, 1) := dk_26 (dk_at dksJ11_min_0 0 rfl rfl)
theorem dJ11_min_1 : decode cJ11_min 1 = .ok (.iload_n 1, 1) := dk_27 (dk_at dksJ11_min_0 1 rfl rfl)
theorem dJ11_min_2 : decode cJ11_min 2 = .ok (.if_icmp .gt 7, 3) := dk_163 0 7 (dk_at dksJ11_min_0 2 rfl rfl)
theorem dJ11_min_5 : decode cJ11_min 5 = .ok (.iload_n 0, 1) := dk_26 (dk_at dksJ11_min_0 5 rfl rfl)
theorem dJ11_min_6 : decode cJ11_min 6 = .ok (.goto 4, 3) := dk_167 0 4 (dk_at dksJ11_min_0 6 rfl rfl)
theorem dJ11_min_9 : decode cJ11_min 9 = .ok (.iload_n 1, 1) := dk_27 (dk_at dksJ11_min_0 9 rfl rfl)
theorem dJ11_min_10 : decode cJ11_min 10 = .ok (.ireturn, 1) := dk_172 (dk_at dksJ11_min_0 10 rfl rfl)
set_option maxHeartbeats 4000000 in
set_option maxRecDepth 100000 in
noncomputable def fn_J11_min (l0 : Int32) (l1 : Int32) (h : cz_H) : cz_Z := (if l1 < l0 then some (.inl (some (cz_i l1)), h) else some (.inl (some (cz_i l0)), h))
set_option maxHeartbeats 4000000 in
set_option maxRecDepth 100000 in
theorem wk_J11_min {K : cz_K} {D : cz_D} {h0 : cz_H} {oh : cz_O × cz_H} {l0 : Int32} {l1 : Int32} {h : cz_H} (S : cz_S K D h0 cJ11_min 2 "java/lang/Math" ((Option.some Jvm.ClassFile.FieldType.int)) "min" ([])) : cz_T K D 2 h0 oh 2 (fn_J11_min l0 l1 h) h 0 [(0, cz_i l0), (1, cz_i l1)] [] := by
  unfold fn_J11_min
  refine ct_iload_n (k := 0) S dJ11_min_0 rfl rfl ?_
  refine ct_iload_n (k := 1) S dJ11_min_1 rfl rfl ?_
  refine ct_icmp_gt (tgt := 9) S dJ11_min_2 (by decide) ?_ ?_
  · refine ct_iload_n (k := 1) S dJ11_min_9 rfl rfl ?_
    exact ct_iret S rfl dJ11_min_10
  · refine ct_iload_n (k := 0) S dJ11_min_5 rfl rfl ?_
    refine ct_goto (tgt := 10) S dJ11_min_6 (by decide) ?_
    exact ct_iret S rfl dJ11_min_10
theorem mt_J11_min {l : Launch} {D : cz_D} {l0 : Int32} {l1 : Int32} {h : cz_H} {oh : cz_O × cz_H} (hz : fn_J11_min l0 l1 h = some oh) : cz_M l D yJ11_min (ws_ yJ11_min cJ11_min 2 ((Option.some Jvm.ClassFile.FieldType.int))) 2 [cz_i l0, cz_i l1] h oh := cz_met (by decide +kernel) (Nat.le_of_ble_eq_true rfl) hz (fun K hl S => wk_J11_min S)
/-! java/util/Arrays.copyOf([Ljava/lang/Object;ILjava/lang/Class;)[Ljava/lang/Object; -/
def dkwJ3_copyOf_3_1 : List UInt8 := [78, 42, 3, 45, 3, 42, 190, 27, 184, 1, 48, 184, 0, 150, 45, 176]
abbrev dktJ3_copyOf_3_1 : List UInt8 := dkwJ3_copyOf_3_1 ++ []
def dkwJ3_copyOf_3_0 : List UInt8 := [44, 18, 110, 166, 0, 10, 27, 189, 0, 2, 167, 0, 14, 44, 182, 0, 90, 27, 184, 0, 95, 192, 0, 110]
abbrev dktJ3_copyOf_3_0 : List UInt8 := dkwJ3_copyOf_3_0 ++ dktJ3_copyOf_3_1
theorem dksJ3_copyOf_3_0 : cJ3_copyOf_3.data.toList.drop 0 = dktJ3_copyOf_3_0 := by decide +kernel
theorem dksJ3_copyOf_3_1 : cJ3_copyOf_3.data.toList.drop 24 = dktJ3_copyOf_3_1 := dk_seg dksJ3_copyOf_3_0 24 rfl rfl
theorem dJ3_copyOf_3_0 : decode cJ3_copyOf_3 0 = .ok (.aload_n 2, 1) := dk_44 (dk_at dksJ3_copyOf_3_0 0 rfl rfl)
theorem dJ3_copyOf_3_1 : decode cJ3_copyOf_3 1 = .ok (.ldc 110, 2) := dk_18 110 (dk_at dksJ3_copyOf_3_0 1 rfl rfl)
theorem dJ3_copyOf_3_3 : decode cJ3_copyOf_3 3 = .ok (.if_acmp .ne 10, 3) := dk_166 0 10 (dk_at dksJ3_copyOf_3_0 3 rfl rfl)
theorem dJ3_copyOf_3_6 : decode cJ3_copyOf_3 6 = .ok (.iload_n 1, 1) := dk_27 (dk_at dksJ3_copyOf_3_0 6 rfl rfl)
theorem dJ3_copyOf_3_7 : decode cJ3_copyOf_3 7 = .ok (.anewarray 2, 3) := dk_189 0 2 (dk_at dksJ3_copyOf_3_0 7 rfl rfl)
theorem dJ3_copyOf_3_10 : decode cJ3_copyOf_3 10 = .ok (.goto 14, 3) := dk_167 0 14 (dk_at dksJ3_copyOf_3_0 10 rfl rfl)
theorem dJ3_copyOf_3_13 : decode cJ3_copyOf_3 13 = .ok (.aload_n 2, 1) := dk_44 (dk_at dksJ3_copyOf_3_0 13 rfl rfl)
theorem dJ3_copyOf_3_14 : decode cJ3_copyOf_3 14 = .ok (.invokevirtual 90, 3) := dk_182 0 90 (dk_at dksJ3_copyOf_3_0 14 rfl rfl)
theorem dJ3_copyOf_3_17 : decode cJ3_copyOf_3 17 = .ok (.iload_n 1, 1) := dk_27 (dk_at dksJ3_copyOf_3_0 17 rfl rfl)
theorem dJ3_copyOf_3_18 : decode cJ3_copyOf_3 18 = .ok (.invokestatic 95, 3) := dk_184 0 95 (dk_at dksJ3_copyOf_3_0 18 rfl rfl)
theorem dJ3_copyOf_3_21 : decode cJ3_copyOf_3 21 = .ok (.checkcast 110, 3) := dk_192 0 110 (dk_at dksJ3_copyOf_3_0 21 rfl rfl)
theorem dJ3_copyOf_3_24 : decode cJ3_copyOf_3 24 = .ok (.astore_n 3, 1) := dk_78 (dk_at dksJ3_copyOf_3_1 0 rfl rfl)
theorem dJ3_copyOf_3_25 : decode cJ3_copyOf_3 25 = .ok (.aload_n 0, 1) := dk_42 (dk_at dksJ3_copyOf_3_1 1 rfl rfl)
theorem dJ3_copyOf_3_26 : decode cJ3_copyOf_3 26 = .ok (.iconst 0, 1) := dk_3 (dk_at dksJ3_copyOf_3_1 2 rfl rfl)
theorem dJ3_copyOf_3_27 : decode cJ3_copyOf_3 27 = .ok (.aload_n 3, 1) := dk_45 (dk_at dksJ3_copyOf_3_1 3 rfl rfl)
theorem dJ3_copyOf_3_28 : decode cJ3_copyOf_3 28 = .ok (.iconst 0, 1) := dk_3 (dk_at dksJ3_copyOf_3_1 4 rfl rfl)
theorem dJ3_copyOf_3_29 : decode cJ3_copyOf_3 29 = .ok (.aload_n 0, 1) := dk_42 (dk_at dksJ3_copyOf_3_1 5 rfl rfl)
theorem dJ3_copyOf_3_30 : decode cJ3_copyOf_3 30 = .ok (.arraylength, 1) := dk_190 (dk_at dksJ3_copyOf_3_1 6 rfl rfl)
theorem dJ3_copyOf_3_31 : decode cJ3_copyOf_3 31 = .ok (.iload_n 1, 1) := dk_27 (dk_at dksJ3_copyOf_3_1 7 rfl rfl)
theorem dJ3_copyOf_3_32 : decode cJ3_copyOf_3 32 = .ok (.invokestatic 304, 3) := dk_184 1 48 (dk_at dksJ3_copyOf_3_1 8 rfl rfl)
theorem dJ3_copyOf_3_35 : decode cJ3_copyOf_3 35 = .ok (.invokestatic 150, 3) := dk_184 0 150 (dk_at dksJ3_copyOf_3_1 11 rfl rfl)
theorem dJ3_copyOf_3_38 : decode cJ3_copyOf_3 38 = .ok (.aload_n 3, 1) := dk_45 (dk_at dksJ3_copyOf_3_1 14 rfl rfl)
theorem dJ3_copyOf_3_39 : decode cJ3_copyOf_3 39 = .ok (.areturn, 1) := dk_176 (dk_at dksJ3_copyOf_3_1 15 rfl rfl)
theorem md_J11_min : cz_md yJ11_min 2 (ws_ yJ11_min cJ11_min 2 ((Option.some Jvm.ClassFile.FieldType.int))) 2 := ⟨cz_ws_code q601, q131, ⟨by decide, by decide, by decide +kernel⟩, by decide⟩
set_option maxHeartbeats 4000000 in
set_option maxRecDepth 100000 in
noncomputable def fn_J3_copyOf_3 (l0 : Option Nat) (l1 : Int32) (l2 : Option Nat) (h : cz_H) : cz_Z := (if l2 = (h.1.2.2.2 31) then cz_newa h 4 l1 (fun r1 h2 => cz_alen h2 l0 (fun x3 => cz_cI (fn_J11_min x3 l1 h2) (fun x5 h4 => cz_acq h4 l0 0 r1 0 x5 (fun h6 => some (.inl (some (cz_r r1)), h6))))) else none)
set_option maxHeartbeats 4000000 in
set_option maxRecDepth 100000 in
theorem wk_J3_copyOf_3 {K : cz_K} {D : cz_D} {h0 : cz_H} {oh : cz_O × cz_H} {l0 : Option Nat} {l1 : Int32} {l2 : Option Nat} {h : cz_H} (S : cz_S K D h0 cJ3_copyOf_3 4 "java/util/Arrays" ((Option.some (Jvm.ClassFile.FieldType.array (Jvm.ClassFile.FieldType.object "java/lang/Object")))) "copyOf" ([])) : cz_T K D 3 h0 oh 4 (fn_J3_copyOf_3 l0 l1 l2 h) h 0 [(0, cz_r l0), (1, cz_i l1), (2, cz_r l2)] [] := by
  unfold fn_J3_copyOf_3
  refine ct_aload_n (k := 2) S dJ3_copyOf_3_0 rfl rfl ?_
  refine ct_ldcM S q1002 dJ3_copyOf_3_1 ?_
  refine ct_acmp_ne (tgt := 13) S dJ3_copyOf_3_3 (by decide) ?_ ?_
  · refine ct_aload_n (k := 2) S dJ3_copyOf_3_13 rfl rfl ?_
    exact ct_none
  · refine ct_iload_n (k := 1) S dJ3_copyOf_3_6 rfl rfl ?_
    refine ct_newa4 S q1004 dJ3_copyOf_3_7 (fun r1 h2 => ?_)
    refine ct_goto (tgt := 24) S dJ3_copyOf_3_10 (by decide) ?_
    refine ct_astore_n (L' := [(3, cz_r r1), (0, cz_r l0), (1, cz_i l1), (2, cz_r l2)]) S dJ3_copyOf_3_24 rfl (by decide) rfl ?_
    refine ct_aload_n (k := 1) S dJ3_copyOf_3_25 rfl rfl ?_
    refine ct_iconst (v := 0) S dJ3_copyOf_3_26 kI_0 ?_
    refine ct_aload_n (k := 0) S dJ3_copyOf_3_27 rfl rfl ?_
    refine ct_iconst (v := 0) S dJ3_copyOf_3_28 kI_0 ?_
    refine ct_aload_n (k := 1) S dJ3_copyOf_3_29 rfl rfl ?_
    refine ct_alen S dJ3_copyOf_3_30 (fun x3 => ?_)
    refine ct_iload_n (k := 2) S dJ3_copyOf_3_31 rfl rfl ?_
    refine ct_cI (st := [cz_i 0, cz_r r1, cz_i 0, cz_r l0]) (cg_static (av := [cz_i x3, cz_i l1]) S (fun _ e => mt_J11_min e) md_J11_min (Or.inl q599) q600 (by decide) (Nat.le_of_ble_eq_true rfl) rfl dJ3_copyOf_3_32) (fun x5 h4 => ?_)
    refine ct_acq S q602 q604 q603 q132 (by decide) (Nat.le_of_ble_eq_true rfl) dJ3_copyOf_3_35 (fun h6 => ?_)
    refine ct_aload_n (k := 0) S dJ3_copyOf_3_38 rfl rfl ?_
    exact ct_aret S rfl (Or.inr ⟨_, rfl⟩) dJ3_copyOf_3_39
theorem mt_J3_copyOf_3 {l : Launch} {D : cz_D} {l0 : Option Nat} {l1 : Int32} {l2 : Option Nat} {h : cz_H} {oh : cz_O × cz_H} (hz : fn_J3_copyOf_3 l0 l1 l2 h = some oh) : cz_M l D yJ3_copyOf_3 (ws_ yJ3_copyOf_3 cJ3_copyOf_3 4 ((Option.some (Jvm.ClassFile.FieldType.array (Jvm.ClassFile.FieldType.object "java/lang/Object"))))) 3 [cz_r l0, cz_i l1, cz_r l2] h oh := cz_met (plainFor_of_name (by decide)) (Nat.le_of_ble_eq_true rfl) hz (fun K hl S => wk_J3_copyOf_3 S)
/-! java/util/Arrays.copyOf([Ljava/lang/Object;I)[Ljava/lang/Object; -/
def dkwJ3_copyOf_2_0 : List UInt8 := [42, 27, 42, 182, 0, 86, 184, 1, 44, 176]
abbrev dktJ3_copyOf_2_0 : List UInt8 := dkwJ3_copyOf_2_0 ++ []
theorem dksJ3_copyOf_2_0 : cJ3_copyOf_2.data.toList.drop 0 = dktJ3_copyOf_2_0 := by decide +kernel
theorem dJ3_copyOf_2_0 : decode cJ3_copyOf_2 0 = .ok (.aload_n 0, 1) := dk_42 (dk_at dksJ3_copyOf_2_0 0 rfl rfl)
theorem dJ3_copyOf_2_1 : decode cJ3_copyOf_2 1 = .ok (.iload_n 1, 1) := dk_27 (dk_at dksJ3_copyOf_2_0 1 rfl rfl)
theorem dJ3_copyOf_2_2 : decode cJ3_copyOf_2 2 = .ok (.aload_n 0, 1) := dk_42 (dk_at dksJ3_copyOf_2_0 2 rfl rfl)
theorem dJ3_copyOf_2_3 : decode cJ3_copyOf_2 3 = .ok (.invokevirtual 86, 3) := dk_182 0 86 (dk_at dksJ3_copyOf_2_0 3 rfl rfl)
theorem dJ3_copyOf_2_6 : decode cJ3_copyOf_2 6 = .ok (.invokestatic 300, 3) := dk_184 1 44 (dk_at dksJ3_copyOf_2_0 6 rfl rfl)
theorem dJ3_copyOf_2_9 : decode cJ3_copyOf_2 9 = .ok (.areturn, 1) := dk_176 (dk_at dksJ3_copyOf_2_0 9 rfl rfl)
theorem md_J3_copyOf_3 : cz_md yJ3_copyOf_3 4 (ws_ yJ3_copyOf_3 cJ3_copyOf_3 4 ((Option.some (Jvm.ClassFile.FieldType.array (Jvm.ClassFile.FieldType.object "java/lang/Object"))))) 3 := ⟨cz_ws_code q1001, q119, ⟨by decide, by decide, by decide +kernel⟩, by decide⟩
set_option maxHeartbeats 4000000 in
set_option maxRecDepth 100000 in
noncomputable def fn_J3_copyOf_2 (l0 : Option Nat) (l1 : Int32) (h : cz_H) : cz_Z := cz_getC h l0 (fun r1 => cz_cR (fn_J3_copyOf_3 l0 l1 r1 h) (fun r3 h2 => some (.inl (some (cz_r r3)), h2)))
set_option maxHeartbeats 4000000 in
set_option maxRecDepth 100000 in
theorem wk_J3_copyOf_2 {K : cz_K} {D : cz_D} {h0 : cz_H} {oh : cz_O × cz_H} {l0 : Option Nat} {l1 : Int32} {h : cz_H} (S : cz_S K D h0 cJ3_copyOf_2 2 "java/util/Arrays" ((Option.some (Jvm.ClassFile.FieldType.array (Jvm.ClassFile.FieldType.object "java/lang/Object")))) "copyOf" ([])) : cz_T K D 4 h0 oh 2 (fn_J3_copyOf_2 l0 l1 h) h 0 [(0, cz_r l0), (1, cz_i l1)] [] := by
  unfold fn_J3_copyOf_2
  refine ct_aload_n (k := 0) S dJ3_copyOf_2_0 rfl rfl ?_
  refine ct_iload_n (k := 1) S dJ3_copyOf_2_1 rfl rfl ?_
  refine ct_aload_n (k := 0) S dJ3_copyOf_2_2 rfl rfl ?_
  refine ct_getC S q970 q2569 q2568 q971 q998 (by decide) (Nat.le_of_ble_eq_true rfl) dJ3_copyOf_2_3 (fun r1 => ?_)
  refine ct_cR (st := []) (cg_static (av := [cz_r l0, cz_i l1, cz_r r1]) S (fun _ e => mt_J3_copyOf_3 e) md_J3_copyOf_3 (Or.inl q999) q1000 (by decide) (Nat.le_of_ble_eq_true rfl) rfl dJ3_copyOf_2_6) (fun r3 h2 => ?_)
  exact ct_aret S rfl (Or.inr ⟨_, rfl⟩) dJ3_copyOf_2_9
theorem mt_J3_copyOf_2 {l : Launch} {D : cz_D} {l0 : Option Nat} {l1 : Int32} {h : cz_H} {oh : cz_O × cz_H} (hz : fn_J3_copyOf_2 l0 l1 h = some oh) : cz_M l D yJ3_copyOf_2 (ws_ yJ3_copyOf_2 cJ3_copyOf_2 2 ((Option.some (Jvm.ClassFile.FieldType.array (Jvm.ClassFile.FieldType.object "java/lang/Object"))))) 4 [cz_r l0, cz_i l1] h oh := cz_met (plainFor_of_name (by decide)) (Nat.le_of_ble_eq_true rfl) hz (fun K hl S => wk_J3_copyOf_2 S)
/-! java/util/ArrayList.grow(I)[Ljava/lang/Object; -/
def dkwJ2_grow_2_2 : List UInt8 := [27, 184, 0, 79, 189, 0, 7, 90, 181, 0, 9, 176]
abbrev dktJ2_grow_2_2 : List UInt8 := dkwJ2_grow_2_2 ++ []
def dkwJ2_grow_2_1 : List UInt8 := [28, 4, 122, 184, 0, 73, 62, 42, 42, 180, 0, 9, 29, 184, 0, 66, 90, 181, 0, 9, 176, 42, 16, 10]
abbrev dktJ2_grow_2_1 : List UInt8 := dkwJ2_grow_2_1 ++ dktJ2_grow_2_2
def dkwJ2_grow_2_0 : List UInt8 := [42, 180, 0, 9, 190, 61, 28, 157, 0, 13, 42, 180, 0, 9, 178, 0, 39, 165, 0, 28, 28, 27, 28, 100]
abbrev dktJ2_grow_2_0 : List UInt8 := dkwJ2_grow_2_0 ++ dktJ2_grow_2_1
theorem dksJ2_grow_2_0 : cJ2_grow_2.data.toList.drop 0 = dktJ2_grow_2_0 := by decide +kernel
theorem dksJ2_grow_2_1 : cJ2_grow_2.data.toList.drop 24 = dktJ2_grow_2_1 := dk_seg dksJ2_grow_2_0 24 rfl rfl
theorem dksJ2_grow_2_2 : cJ2_grow_2.data.toList.drop 48 = dktJ2_grow_2_2 := dk_seg dksJ2_grow_2_1 24 rfl rfl
theorem dJ2_grow_2_0 : decode cJ2_grow_2 0 = .ok (.aload_n 0, 1) := dk_42 (dk_at dksJ2_grow_2_0 0 rfl rfl)
theorem dJ2_grow_2_1 : decode cJ2_grow_2 1 = .ok (.getfield 9, 3) := dk_180 0 9 (dk_at dksJ2_grow_2_0 1 rfl rfl)
theorem dJ2_grow_2_4 : decode cJ2_grow_2 4 = .ok (.arraylength, 1) := dk_190 (dk_at dksJ2_grow_2_0 4 rfl rfl)
theorem dJ2_grow_2_5 : decode cJ2_grow_2 5 = .ok (.istore_n 2, 1) := dk_61 (dk_at dksJ2_grow_2_0 5 rfl rfl)
theorem dJ2_grow_2_6 : decode cJ2_grow_2 6 = .ok (.iload_n 2, 1) := dk_28 (dk_at dksJ2_grow_2_0 6 rfl rfl)
theorem dJ2_grow_2_7 : decode cJ2_grow_2 7 = .ok (.ifCond .gt 13, 3) := dk_157 0 13 (dk_at dksJ2_grow_2_0 7 rfl rfl)
theorem dJ2_grow_2_10 : decode cJ2_grow_2 10 = .ok (.aload_n 0, 1) := dk_42 (dk_at dksJ2_grow_2_0 10 rfl rfl)
theorem dJ2_grow_2_11 : decode cJ2_grow_2 11 = .ok (.getfield 9, 3) := dk_180 0 9 (dk_at dksJ2_grow_2_0 11 rfl rfl)
theorem dJ2_grow_2_14 : decode cJ2_grow_2 14 = .ok (.getstatic 39, 3) := dk_178 0 39 (dk_at dksJ2_grow_2_0 14 rfl rfl)
theorem dJ2_grow_2_17 : decode cJ2_grow_2 17 = .ok (.if_acmp .eq 28, 3) := dk_165 0 28 (dk_at dksJ2_grow_2_0 17 rfl rfl)
theorem dJ2_grow_2_20 : decode cJ2_grow_2 20 = .ok (.iload_n 2, 1) := dk_28 (dk_at dksJ2_grow_2_0 20 rfl rfl)
theorem dJ2_grow_2_21 : decode cJ2_grow_2 21 = .ok (.iload_n 1, 1) := dk_27 (dk_at dksJ2_grow_2_0 21 rfl rfl)
theorem dJ2_grow_2_22 : decode cJ2_grow_2 22 = .ok (.iload_n 2, 1) := dk_28 (dk_at dksJ2_grow_2_0 22 rfl rfl)
theorem dJ2_grow_2_23 : decode cJ2_grow_2 23 = .ok (.isub, 1) := dk_100 (dk_at dksJ2_grow_2_0 23 rfl rfl)
theorem dJ2_grow_2_24 : decode cJ2_grow_2 24 = .ok (.iload_n 2, 1) := dk_28 (dk_at dksJ2_grow_2_1 0 rfl rfl)
theorem dJ2_grow_2_25 : decode cJ2_grow_2 25 = .ok (.iconst 1, 1) := dk_4 (dk_at dksJ2_grow_2_1 1 rfl rfl)
theorem dJ2_grow_2_26 : decode cJ2_grow_2 26 = .ok (.ishr, 1) := dk_122 (dk_at dksJ2_grow_2_1 2 rfl rfl)
theorem dJ2_grow_2_27 : decode cJ2_grow_2 27 = .ok (.invokestatic 73, 3) := dk_184 0 73 (dk_at dksJ2_grow_2_1 3 rfl rfl)
theorem dJ2_grow_2_30 : decode cJ2_grow_2 30 = .ok (.istore_n 3, 1) := dk_62 (dk_at dksJ2_grow_2_1 6 rfl rfl)
theorem dJ2_grow_2_31 : decode cJ2_grow_2 31 = .ok (.aload_n 0, 1) := dk_42 (dk_at dksJ2_grow_2_1 7 rfl rfl)
theorem dJ2_grow_2_32 : decode cJ2_grow_2 32 = .ok (.aload_n 0, 1) := dk_42 (dk_at dksJ2_grow_2_1 8 rfl rfl)
theorem dJ2_grow_2_33 : decode cJ2_grow_2 33 = .ok (.getfield 9, 3) := dk_180 0 9 (dk_at dksJ2_grow_2_1 9 rfl rfl)
theorem dJ2_grow_2_36 : decode cJ2_grow_2 36 = .ok (.iload_n 3, 1) := dk_29 (dk_at dksJ2_grow_2_1 12 rfl rfl)
theorem dJ2_grow_2_37 : decode cJ2_grow_2 37 = .ok (.invokestatic 66, 3) := dk_184 0 66 (dk_at dksJ2_grow_2_1 13 rfl rfl)
theorem dJ2_grow_2_40 : decode cJ2_grow_2 40 = .ok (.dup_x1, 1) := dk_90 (dk_at dksJ2_grow_2_1 16 rfl rfl)
theorem dJ2_grow_2_41 : decode cJ2_grow_2 41 = .ok (.putfield 9, 3) := dk_181 0 9 (dk_at dksJ2_grow_2_1 17 rfl rfl)
theorem dJ2_grow_2_44 : decode cJ2_grow_2 44 = .ok (.areturn, 1) := dk_176 (dk_at dksJ2_grow_2_1 20 rfl rfl)
theorem dJ2_grow_2_45 : decode cJ2_grow_2 45 = .ok (.aload_n 0, 1) := dk_42 (dk_at dksJ2_grow_2_1 21 rfl rfl)
theorem dJ2_grow_2_46 : decode cJ2_grow_2 46 = .ok (.bipush 10, 2) := dk_16 10 (dk_at dksJ2_grow_2_1 22 rfl rfl)
theorem dJ2_grow_2_48 : decode cJ2_grow_2 48 = .ok (.iload_n 1, 1) := dk_27 (dk_at dksJ2_grow_2_2 0 rfl rfl)
theorem dJ2_grow_2_49 : decode cJ2_grow_2 49 = .ok (.invokestatic 79, 3) := dk_184 0 79 (dk_at dksJ2_grow_2_2 1 rfl rfl)
theorem dJ2_grow_2_52 : decode cJ2_grow_2 52 = .ok (.anewarray 7, 3) := dk_189 0 7 (dk_at dksJ2_grow_2_2 4 rfl rfl)
theorem dJ2_grow_2_55 : decode cJ2_grow_2 55 = .ok (.dup_x1, 1) := dk_90 (dk_at dksJ2_grow_2_2 7 rfl rfl)
theorem dJ2_grow_2_56 : decode cJ2_grow_2 56 = .ok (.putfield 9, 3) := dk_181 0 9 (dk_at dksJ2_grow_2_2 8 rfl rfl)
theorem dJ2_grow_2_59 : decode cJ2_grow_2 59 = .ok (.areturn, 1) := dk_176 (dk_at dksJ2_grow_2_2 11 rfl rfl)
theorem md_J10_newLength : cz_md yJ10_newLength 4 (ws_ yJ10_newLength cJ10_newLength 4 ((Option.some Jvm.ClassFile.FieldType.int))) 3 := ⟨cz_ws_code q580, q130, ⟨by decide, by decide, by decide +kernel⟩, by decide⟩
theorem md_J3_copyOf_2 : cz_md yJ3_copyOf_2 2 (ws_ yJ3_copyOf_2 cJ3_copyOf_2 2 ((Option.some (Jvm.ClassFile.FieldType.array (Jvm.ClassFile.FieldType.object "java/lang/Object"))))) 2 := ⟨cz_ws_code q969, q119, ⟨by decide, by decide, by decide +kernel⟩, by decide⟩
theorem fp_J2_m_2_1 {nm : String} : cz_FP "java/util/ArrayList" nm [(2, 1)] := List.forall_mem_cons.mpr ⟨⟨RJ2, TJ2, 3, rfl, Or.inl rfl⟩, fun _ h => absurd h List.not_mem_nil⟩
set_option maxHeartbeats 4000000 in
set_option maxRecDepth 100000 in
noncomputable def fn_J2_grow_2 (l0 : Option Nat) (l1 : Int32) (h : cz_H) : cz_Z := cz_getR h l0 [(2, 1)] (fun r1 => cz_alen h r1 (fun x2 => cz_jn (fun (h3 : cz_H) => cz_cI (fn_J10_newLength x2 (l1 - x2) (x2 >>> ((1 : Int32) &&& 31)) h3) (fun x5 h4 => cz_getR h4 l0 [(2, 1)] (fun r6 => cz_cR (fn_J3_copyOf_2 r6 x5 h4) (fun r8 h7 => cz_put h7 l0 [(2, 1)] (cz_r r8) (fun h9 => some (.inl (some (cz_r r8)), h9)))))) (fun j10 => (if 0 < x2 then j10 h else cz_getR h l0 [(2, 1)] (fun r11 => (if r11 = (h.1.2.2.2 27) then cz_cI (fn_J11_max 10 l1 h) (fun x13 h12 => cz_newa h12 4 x13 (fun r14 h15 => cz_put h15 l0 [(2, 1)] (cz_r r14) (fun h16 => some (.inl (some (cz_r r14)), h16)))) else j10 h))))))
set_option maxHeartbeats 4000000 in
set_option maxRecDepth 100000 in
theorem wk_J2_grow_2 {K : cz_K} {D : cz_D} {h0 : cz_H} {oh : cz_O × cz_H} {l0 : Option Nat} {l1 : Int32} {h : cz_H} (S : cz_S K D h0 cJ2_grow_2 4 "java/util/ArrayList" ((Option.some (Jvm.ClassFile.FieldType.array (Jvm.ClassFile.FieldType.object "java/lang/Object")))) "grow" ([])) : cz_T K D 5 h0 oh 4 (fn_J2_grow_2 l0 l1 h) h 0 [(0, cz_r l0), (1, cz_i l1)] [] := by
  unfold fn_J2_grow_2
  refine ct_aload_n (k := 0) S dJ2_grow_2_0 rfl rfl ?_
  refine ct_getR S fw_J2_9 dJ2_grow_2_1 (fun r1 => ?_)
  refine ct_alen S dJ2_grow_2_4 (fun x2 => ?_)
  refine ct_istore_n (L' := [(2, cz_i x2), (0, cz_r l0), (1, cz_i l1)]) S dJ2_grow_2_5 rfl (by decide) rfl ?_
  refine ct_iload_n (k := 0) S dJ2_grow_2_6 rfl rfl ?_
  refine ct_jnP (fun j10 => ∀ (h3 : cz_H), cz_T K D 5 h0 oh 4 (j10 h3) h3 20 [(0, cz_r l0), (1, cz_i l1), (2, cz_i x2)] []) (fun h3 => ?_) (fun j10 Hj10 => ?_)
  · refine ct_iload_n (k := 2) S dJ2_grow_2_20 rfl rfl ?_
    refine ct_iload_n (k := 1) S dJ2_grow_2_21 rfl rfl ?_
    refine ct_iload_n (k := 2) S dJ2_grow_2_22 rfl rfl ?_
    refine ct_isub S dJ2_grow_2_23 ?_
    refine ct_iload_n (k := 2) S dJ2_grow_2_24 rfl rfl ?_
    refine ct_iconst (v := 1) S dJ2_grow_2_25 kI_1 ?_
    refine ct_ishr S dJ2_grow_2_26 ?_
    refine ct_cI (st := []) (cg_static (av := [cz_i x2, cz_i (l1 - x2), cz_i (x2 >>> ((1 : Int32) &&& 31))]) S (fun _ e => mt_J10_newLength e) md_J10_newLength (Or.inl q966) q579 (by decide) (Nat.le_of_ble_eq_true rfl) rfl dJ2_grow_2_27) (fun x5 h4 => ?_)
    refine ct_istore_n (L' := [(3, cz_i x5), (0, cz_r l0), (1, cz_i l1), (2, cz_i x2)]) S dJ2_grow_2_30 rfl (by decide) rfl ?_
    refine ct_aload_n (k := 1) S dJ2_grow_2_31 rfl rfl ?_
    refine ct_aload_n (k := 1) S dJ2_grow_2_32 rfl rfl ?_
    refine ct_getR S fw_J2_9 dJ2_grow_2_33 (fun r6 => ?_)
    refine ct_iload_n (k := 0) S dJ2_grow_2_36 rfl rfl ?_
    refine ct_cR (st := [cz_r l0]) (cg_static (av := [cz_r r6, cz_i x5]) S (fun _ e => mt_J3_copyOf_2 e) md_J3_copyOf_2 (Or.inl q967) q968 (by decide) (Nat.le_of_ble_eq_true rfl) rfl dJ2_grow_2_37) (fun r8 h7 => ?_)
    refine ct_dup_x1 S dJ2_grow_2_40 rfl rfl ?_
    refine ct_put S fw_J2_9 fp_J2_m_2_1 (cz_fits_a pd__Ljava_lang_Object_) dJ2_grow_2_41 (fun h9 => ?_)
    exact ct_aret S rfl (Or.inr ⟨_, rfl⟩) dJ2_grow_2_44
  · refine ct_if_gt (tgt := 20) S dJ2_grow_2_7 (by decide) ?_ ?_
    · exact ct_sub [1, 2, 0] rfl (Hj10 h)
    · refine ct_aload_n (k := 1) S dJ2_grow_2_10 rfl rfl ?_
      refine ct_getR S fw_J2_9 dJ2_grow_2_11 (fun r11 => ?_)
      refine ct_getsR (i := 1) (j := 27) S rfl q185 dJ2_grow_2_14 ?_
      refine ct_acmp_eq (tgt := 45) S dJ2_grow_2_17 (by decide) ?_ ?_
      · refine ct_aload_n (k := 1) S dJ2_grow_2_45 rfl rfl ?_
        refine ct_bipush (v := 10) S dJ2_grow_2_46 kB_10 ?_
        refine ct_iload_n (k := 2) S dJ2_grow_2_48 rfl rfl ?_
        refine ct_cI (st := [cz_r l0]) (cg_static (av := [cz_i 10, cz_i l1]) S (fun _ e => mt_J11_max e) md_J11_max (Or.inl q1005) q582 (by decide) (Nat.le_of_ble_eq_true rfl) rfl dJ2_grow_2_49) (fun x13 h12 => ?_)
        refine ct_newa4 S q1006 dJ2_grow_2_52 (fun r14 h15 => ?_)
        refine ct_dup_x1 S dJ2_grow_2_55 rfl rfl ?_
        refine ct_put S fw_J2_9 fp_J2_m_2_1 (cz_fits_a pd__Ljava_lang_Object_) dJ2_grow_2_56 (fun h16 => ?_)
        exact ct_aret S rfl (Or.inr ⟨_, rfl⟩) dJ2_grow_2_59
      · exact ct_sub [1, 2, 0] rfl (Hj10 h)
theorem mt_J2_grow_2 {l : Launch} {D : cz_D} {l0 : Option Nat} {l1 : Int32} {h : cz_H} {oh : cz_O × cz_H} (hz : fn_J2_grow_2 l0 l1 h = some oh) : cz_M l D yJ2_grow_2 (ws_ yJ2_grow_2 cJ2_grow_2 4 ((Option.some (Jvm.ClassFile.FieldType.array (Jvm.ClassFile.FieldType.object "java/lang/Object"))))) 5 [cz_r l0, cz_i l1] h oh := cz_met (plainFor_of_name (by decide)) (Nat.le_of_ble_eq_true rfl) hz (fun K hl S => wk_J2_grow_2 S)
/-! java/util/ArrayList.grow()[Ljava/lang/Object; -/
def dkwJ2_grow_0 : List UInt8 := [42, 42, 180, 0, 48, 4, 96, 182, 0, 69, 176]
abbrev dktJ2_grow_0 : List UInt8 := dkwJ2_grow_0 ++ []
theorem dksJ2_grow_0 : cJ2_grow.data.toList.drop 0 = dktJ2_grow_0 := by decide +kernel
theorem dJ2_grow_0 : decode cJ2_grow 0 = .ok (.aload_n 0, 1) := dk_42 (dk_at dksJ2_grow_0 0 rfl rfl)
theorem dJ2_grow_1 : decode cJ2_grow 1 = .ok (.aload_n 0, 1) := dk_42 (dk_at dksJ2_grow_0 1 rfl rfl)
theorem dJ2_grow_2 : decode cJ2_grow 2 = .ok (.getfield 48, 3) := dk_180 0 48 (dk_at dksJ2_grow_0 2 rfl rfl)
theorem dJ2_grow_5 : decode cJ2_grow 5 = .ok (.iconst 1, 1) := dk_4 (dk_at dksJ2_grow_0 5 rfl rfl)
theorem dJ2_grow_6 : decode cJ2_grow 6 = .ok (.iadd, 1) := dk_96 (dk_at dksJ2_grow_0 6 rfl rfl)
theorem dJ2_grow_7 : decode cJ2_grow 7 = .ok (.invokevirtual 69, 3) := dk_182 0 69 (dk_at dksJ2_grow_0 7 rfl rfl)
theorem dJ2_grow_10 : decode cJ2_grow 10 = .ok (.areturn, 1) := dk_176 (dk_at dksJ2_grow_0 10 rfl rfl)
theorem se_java_util_ArrayList_grow__I__Ljava_lang_Object__java_util_ArrayList : ∀ c ∈ ([2] : List Nat), ∃ q : vw_C, cz_cl[c]? = some q ∧ Cond.selects q.1 (⟨"java/util/ArrayList", "grow", "(I)[Ljava/lang/Object;"⟩ : MethodName) (⟨"java/util/ArrayList", "grow", "(I)[Ljava/lang/Object;"⟩ : MethodName) ∈ lw_all := List.forall_mem_cons.mpr ⟨⟨_, cz_cl2, qs9⟩, fun _ h => absurd h List.not_mem_nil⟩
theorem md_J2_grow_2 : cz_md yJ2_grow_2 4 (ws_ yJ2_grow_2 cJ2_grow_2 4 ((Option.some (Jvm.ClassFile.FieldType.array (Jvm.ClassFile.FieldType.object "java/lang/Object"))))) 1 := ⟨cz_ws_code q965, q117, ⟨by decide, by decide, by decide +kernel⟩, by decide⟩
set_option maxHeartbeats 4000000 in
set_option maxRecDepth 100000 in
noncomputable def fn_J2_grow (l0 : Option Nat) (h : cz_H) : cz_Z := cz_getI h l0 [(2, 2)] (fun x1 => cz_rc h l0 [2] (cz_cR (fn_J2_grow_2 l0 (x1 + 1) h) (fun r9 h8 => some (.inl (some (cz_r r9)), h8))))
set_option maxHeartbeats 4000000 in
set_option maxRecDepth 100000 in
theorem wk_J2_grow {K : cz_K} {D : cz_D} {h0 : cz_H} {oh : cz_O × cz_H} {l0 : Option Nat} {h : cz_H} (S : cz_S K D h0 cJ2_grow 1 "java/util/ArrayList" ((Option.some (Jvm.ClassFile.FieldType.array (Jvm.ClassFile.FieldType.object "java/lang/Object")))) "grow" ([])) : cz_T K D 6 h0 oh 1 (fn_J2_grow l0 h) h 0 [(0, cz_r l0)] [] := by
  unfold fn_J2_grow
  refine ct_aload_n (k := 0) S dJ2_grow_0 rfl rfl ?_
  refine ct_aload_n (k := 0) S dJ2_grow_1 rfl rfl ?_
  refine ct_getI S fw_J2_48 dJ2_grow_2 (fun x1 => ?_)
  refine ct_iconst (v := 1) S dJ2_grow_5 kI_1 ?_
  refine ct_iadd S dJ2_grow_6 ?_
  refine ct_rc (fun b2 ci3 V4 hb5 hc6 hi7 => ?_)
  refine ct_cR (st := []) (cg_virtual (av := [cz_i (x1 + 1)]) S hb5 hc6 hi7 (fun _ e => mt_J2_grow_2 e) md_J2_grow_2 q962 q964 se_java_util_ArrayList_grow__I__Ljava_lang_Object__java_util_ArrayList (by decide) (Nat.le_of_ble_eq_true rfl) rfl dJ2_grow_7) (fun r9 h8 => ?_)
  exact ct_aret S rfl (Or.inr ⟨_, rfl⟩) dJ2_grow_10
theorem mt_J2_grow {l : Launch} {D : cz_D} {l0 : Option Nat} {h : cz_H} {oh : cz_O × cz_H} (hz : fn_J2_grow l0 h = some oh) : cz_M l D yJ2_grow (ws_ yJ2_grow cJ2_grow 1 ((Option.some (Jvm.ClassFile.FieldType.array (Jvm.ClassFile.FieldType.object "java/lang/Object"))))) 6 [cz_r l0] h oh := cz_met (plainFor_of_name (by decide)) (Nat.le_of_ble_eq_true rfl) hz (fun K hl S => wk_J2_grow S)
/-! java/util/ArrayList.add(Ljava/lang/Object;[Ljava/lang/Object;I)V -/
def dkwJ2_add_2_0 : List UInt8 := [29, 44, 190, 160, 0, 8, 42, 182, 0, 129, 77, 44, 29, 43, 83, 42, 29, 4, 96, 181, 0, 48, 177]
abbrev dktJ2_add_2_0 : List UInt8 := dkwJ2_add_2_0 ++ []
theorem dksJ2_add_2_0 : cJ2_add_2.data.toList.drop 0 = dktJ2_add_2_0 := by decide +kernel
theorem dJ2_add_2_0 : decode cJ2_add_2 0 = .ok (.iload_n 3, 1) := dk_29 (dk_at dksJ2_add_2_0 0 rfl rfl)
theorem dJ2_add_2_1 : decode cJ2_add_2 1 = .ok (.aload_n 2, 1) := dk_44 (dk_at dksJ2_add_2_0 1 rfl rfl)
theorem dJ2_add_2_2 : decode cJ2_add_2 2 = .ok (.arraylength, 1) := dk_190 (dk_at dksJ2_add_2_0 2 rfl rfl)
theorem dJ2_add_2_3 : decode cJ2_add_2 3 = .ok (.if_icmp .ne 8, 3) := dk_160 0 8 (dk_at dksJ2_add_2_0 3 rfl rfl)
theorem dJ2_add_2_6 : decode cJ2_add_2 6 = .ok (.aload_n 0, 1) := dk_42 (dk_at dksJ2_add_2_0 6 rfl rfl)
theorem dJ2_add_2_7 : decode cJ2_add_2 7 = .ok (.invokevirtual 129, 3) := dk_182 0 129 (dk_at dksJ2_add_2_0 7 rfl rfl)
theorem dJ2_add_2_10 : decode cJ2_add_2 10 = .ok (.astore_n 2, 1) := dk_77 (dk_at dksJ2_add_2_0 10 rfl rfl)
theorem dJ2_add_2_11 : decode cJ2_add_2 11 = .ok (.aload_n 2, 1) := dk_44 (dk_at dksJ2_add_2_0 11 rfl rfl)
theorem dJ2_add_2_12 : decode cJ2_add_2 12 = .ok (.iload_n 3, 1) := dk_29 (dk_at dksJ2_add_2_0 12 rfl rfl)
theorem dJ2_add_2_13 : decode cJ2_add_2 13 = .ok (.aload_n 1, 1) := dk_43 (dk_at dksJ2_add_2_0 13 rfl rfl)
theorem dJ2_add_2_14 : decode cJ2_add_2 14 = .ok (.aastore, 1) := dk_83 (dk_at dksJ2_add_2_0 14 rfl rfl)
theorem dJ2_add_2_15 : decode cJ2_add_2 15 = .ok (.aload_n 0, 1) := dk_42 (dk_at dksJ2_add_2_0 15 rfl rfl)
theorem dJ2_add_2_16 : decode cJ2_add_2 16 = .ok (.iload_n 3, 1) := dk_29 (dk_at dksJ2_add_2_0 16 rfl rfl)
theorem dJ2_add_2_17 : decode cJ2_add_2 17 = .ok (.iconst 1, 1) := dk_4 (dk_at dksJ2_add_2_0 17 rfl rfl)
theorem dJ2_add_2_18 : decode cJ2_add_2 18 = .ok (.iadd, 1) := dk_96 (dk_at dksJ2_add_2_0 18 rfl rfl)
theorem dJ2_add_2_19 : decode cJ2_add_2 19 = .ok (.putfield 48, 3) := dk_181 0 48 (dk_at dksJ2_add_2_0 19 rfl rfl)
theorem dJ2_add_2_22 : decode cJ2_add_2 22 = .ok (.return_, 1) := dk_177 (dk_at dksJ2_add_2_0 22 rfl rfl)
theorem fp_J2_m_2_2 {nm : String} : cz_FP "java/util/ArrayList" nm [(2, 2)] := List.forall_mem_cons.mpr ⟨⟨RJ2, TJ2, 3, rfl, Or.inl rfl⟩, fun _ h => absurd h List.not_mem_nil⟩
theorem se_java_util_ArrayList_grow____Ljava_lang_Object__java_util_ArrayList : ∀ c ∈ ([2] : List Nat), ∃ q : vw_C, cz_cl[c]? = some q ∧ Cond.selects q.1 (⟨"java/util/ArrayList", "grow", "()[Ljava/lang/Object;"⟩ : MethodName) (⟨"java/util/ArrayList", "grow", "()[Ljava/lang/Object;"⟩ : MethodName) ∈ lw_all := List.forall_mem_cons.mpr ⟨⟨_, cz_cl2, qs8⟩, fun _ h => absurd h List.not_mem_nil⟩
theorem md_J2_grow : cz_md yJ2_grow 1 (ws_ yJ2_grow cJ2_grow 1 ((Option.some (Jvm.ClassFile.FieldType.array (Jvm.ClassFile.FieldType.object "java/lang/Object"))))) 0 := ⟨cz_ws_code q961, q117, ⟨by decide, by decide, by decide +kernel⟩, by decide⟩
set_option maxHeartbeats 4000000 in
set_option maxRecDepth 100000 in
noncomputable def fn_J2_add_2 (l0 : Option Nat) (l1 : Option Nat) (l2 : Option Nat) (l3 : Int32) (h : cz_H) : cz_Z := cz_alen h l2 (fun x1 => cz_jn (fun (v2 : Option Nat) (h3 : cz_H) => cz_aast h3 v2 l3 l1 (fun h4 => cz_put h4 l0 [(2, 2)] (cz_i (l3 + 1)) (fun h5 => some (.inl none, h5)))) (fun j6 => (if l3 = x1 then cz_rc h l0 [2] (cz_cR (fn_J2_grow l0 h) (fun r14 h13 => j6 r14 h13)) else j6 l2 h)))
set_option maxHeartbeats 4000000 in
set_option maxRecDepth 100000 in
theorem wk_J2_add_2 {K : cz_K} {D : cz_D} {h0 : cz_H} {oh : cz_O × cz_H} {l0 : Option Nat} {l1 : Option Nat} {l2 : Option Nat} {l3 : Int32} {h : cz_H} (S : cz_S K D h0 cJ2_add_2 4 "java/util/ArrayList" ((Option.none : Option Jvm.ClassFile.FieldType)) "add" ([])) : cz_T K D 7 h0 oh 4 (fn_J2_add_2 l0 l1 l2 l3 h) h 0 [(0, cz_r l0), (1, cz_r l1), (2, cz_r l2), (3, cz_i l3)] [] := by
  unfold fn_J2_add_2
  refine ct_iload_n (k := 3) S dJ2_add_2_0 rfl rfl ?_
  refine ct_aload_n (k := 2) S dJ2_add_2_1 rfl rfl ?_
  refine ct_alen S dJ2_add_2_2 (fun x1 => ?_)
  refine ct_jnP (fun j6 => ∀ (v2 : Option Nat) (h3 : cz_H), cz_T K D 7 h0 oh 4 (j6 v2 h3) h3 11 [(0, cz_r l0), (1, cz_r l1), (2, cz_r v2), (3, cz_i l3)] []) (fun v2 h3 => ?_) (fun j6 Hj6 => ?_)
  · refine ct_aload_n (k := 2) S dJ2_add_2_11 rfl rfl ?_
    refine ct_iload_n (k := 3) S dJ2_add_2_12 rfl rfl ?_
    refine ct_aload_n (k := 1) S dJ2_add_2_13 rfl rfl ?_
    refine ct_aast S dJ2_add_2_14 (fun h4 => ?_)
    refine ct_aload_n (k := 0) S dJ2_add_2_15 rfl rfl ?_
    refine ct_iload_n (k := 3) S dJ2_add_2_16 rfl rfl ?_
    refine ct_iconst (v := 1) S dJ2_add_2_17 kI_1 ?_
    refine ct_iadd S dJ2_add_2_18 ?_
    refine ct_put S fw_J2_48 fp_J2_m_2_2 (cz_fits_i pd_I) dJ2_add_2_19 (fun h5 => ?_)
    exact ct_vret S rfl dJ2_add_2_22
  · refine ct_icmp_ne (tgt := 11) S dJ2_add_2_3 (by decide) ?_ ?_
    · exact Hj6 l2 h
    · refine ct_aload_n (k := 0) S dJ2_add_2_6 rfl rfl ?_
      refine ct_rc (fun b7 ci8 V9 hb10 hc11 hi12 => ?_)
      refine ct_cR (st := []) (cg_virtual (av := []) S hb10 hc11 hi12 (fun _ e => mt_J2_grow e) md_J2_grow q958 q960 se_java_util_ArrayList_grow____Ljava_lang_Object__java_util_ArrayList (by decide) (Nat.le_of_ble_eq_true rfl) rfl dJ2_add_2_7) (fun r14 h13 => ?_)
      refine ct_astore_n (L' := [(2, cz_r r14), (0, cz_r l0), (1, cz_r l1), (3, cz_i l3)]) S dJ2_add_2_10 rfl (by decide) rfl ?_
      exact ct_sub [1, 2, 0, 3] rfl (Hj6 r14 h13)
theorem mt_J2_add_2 {l : Launch} {D : cz_D} {l0 : Option Nat} {l1 : Option Nat} {l2 : Option Nat} {l3 : Int32} {h : cz_H} {oh : cz_O × cz_H} (hz : fn_J2_add_2 l0 l1 l2 l3 h = some oh) : cz_M l D yJ2_add_2 (ws_ yJ2_add_2 cJ2_add_2 4 ((Option.none : Option Jvm.ClassFile.FieldType))) 7 [cz_r l0, cz_r l1, cz_r l2, cz_i l3] h oh := cz_met (plainFor_of_name (by decide)) (Nat.le_of_ble_eq_true rfl) hz (fun K hl S => wk_J2_add_2 S)
/-! java/util/ArrayList.add(Ljava/lang/Object;)Z -/
def dkwJ2_add_1 : List UInt8 := [172]
abbrev dktJ2_add_1 : List UInt8 := dkwJ2_add_1 ++ []
def dkwJ2_add_0 : List UInt8 := [42, 89, 180, 0, 63, 4, 96, 181, 0, 63, 42, 43, 42, 180, 0, 9, 42, 180, 0, 48, 182, 0, 131, 4]
abbrev dktJ2_add_0 : List UInt8 := dkwJ2_add_0 ++ dktJ2_add_1
theorem dksJ2_add_0 : cJ2_add.data.toList.drop 0 = dktJ2_add_0 := by decide +kernel
theorem dksJ2_add_1 : cJ2_add.data.toList.drop 24 = dktJ2_add_1 := dk_seg dksJ2_add_0 24 rfl rfl
theorem dJ2_add_0 : decode cJ2_add 0 = .ok (.aload_n 0, 1) := dk_42 (dk_at dksJ2_add_0 0 rfl rfl)
theorem dJ2_add_1 : decode cJ2_add 1 = .ok (.dup, 1) := dk_89 (dk_at dksJ2_add_0 1 rfl rfl)
theorem dJ2_add_2 : decode cJ2_add 2 = .ok (.getfield 63, 3) := dk_180 0 63 (dk_at dksJ2_add_0 2 rfl rfl)
theorem dJ2_add_5 : decode cJ2_add 5 = .ok (.iconst 1, 1) := dk_4 (dk_at dksJ2_add_0 5 rfl rfl)
theorem dJ2_add_6 : decode cJ2_add 6 = .ok (.iadd, 1) := dk_96 (dk_at dksJ2_add_0 6 rfl rfl)
theorem dJ2_add_7 : decode cJ2_add 7 = .ok (.putfield 63, 3) := dk_181 0 63 (dk_at dksJ2_add_0 7 rfl rfl)
theorem dJ2_add_10 : decode cJ2_add 10 = .ok (.aload_n 0, 1) := dk_42 (dk_at dksJ2_add_0 10 rfl rfl)
theorem dJ2_add_11 : decode cJ2_add 11 = .ok (.aload_n 1, 1) := dk_43 (dk_at dksJ2_add_0 11 rfl rfl)
theorem dJ2_add_12 : decode cJ2_add 12 = .ok (.aload_n 0, 1) := dk_42 (dk_at dksJ2_add_0 12 rfl rfl)
theorem dJ2_add_13 : decode cJ2_add 13 = .ok (.getfield 9, 3) := dk_180 0 9 (dk_at dksJ2_add_0 13 rfl rfl)
theorem dJ2_add_16 : decode cJ2_add 16 = .ok (.aload_n 0, 1) := dk_42 (dk_at dksJ2_add_0 16 rfl rfl)
theorem dJ2_add_17 : decode cJ2_add 17 = .ok (.getfield 48, 3) := dk_180 0 48 (dk_at dksJ2_add_0 17 rfl rfl)
theorem dJ2_add_20 : decode cJ2_add 20 = .ok (.invokevirtual 131, 3) := dk_182 0 131 (dk_at dksJ2_add_0 20 rfl rfl)
theorem dJ2_add_23 : decode cJ2_add 23 = .ok (.iconst 1, 1) := dk_4 (dk_at dksJ2_add_0 23 rfl rfl)
theorem dJ2_add_24 : decode cJ2_add 24 = .ok (.ireturn, 1) := dk_172 (dk_at dksJ2_add_1 0 rfl rfl)
theorem fw_J2_63 : cz_FW "java/util/ArrayList" 63 [(2, 0)] "I" := ⟨"java/util/ArrayList", "modCount", Or.inl q190, List.forall_mem_cons.mpr ⟨⟨RJ2, TJ2, 3, rfl, by decide, rfl, rfl, Or.inr q191⟩, fun _ h => absurd h List.not_mem_nil⟩, by decide⟩
theorem fp_J2_m_2_0 {nm : String} : cz_FP "java/util/ArrayList" nm [(2, 0)] := List.forall_mem_cons.mpr ⟨⟨RJ2, TJ2, 3, rfl, Or.inl rfl⟩, fun _ h => absurd h List.not_mem_nil⟩
theorem se_java_util_ArrayList_add__Ljava_lang_Object__Ljava_lang_Object_I_V_java_util_ArrayList : ∀ c ∈ ([2] : List Nat), ∃ q : vw_C, cz_cl[c]? = some q ∧ Cond.selects q.1 (⟨"java/util/ArrayList", "add", "(Ljava/lang/Object;[Ljava/lang/Object;I)V"⟩ : MethodName) (⟨"java/util/ArrayList", "add", "(Ljava/lang/Object;[Ljava/lang/Object;I)V"⟩ : MethodName) ∈ lw_all := List.forall_mem_cons.mpr ⟨⟨_, cz_cl2, qs7⟩, fun _ h => absurd h List.not_mem_nil⟩
theorem md_J2_add_2 : cz_md yJ2_add_2 4 (ws_ yJ2_add_2 cJ2_add_2 4 ((Option.none : Option Jvm.ClassFile.FieldType))) 3 := ⟨cz_ws_code q957, q117, ⟨by decide, by decide, by decide +kernel⟩, by decide⟩
set_option maxHeartbeats 4000000 in
set_option maxRecDepth 100000 in
noncomputable def fn_J2_add (l0 : Option Nat) (l1 : Option Nat) (h : cz_H) : cz_Z := cz_getI h l0 [(2, 0)] (fun x1 => cz_put h l0 [(2, 0)] (cz_i (x1 + 1)) (fun h2 => cz_getR h2 l0 [(2, 1)] (fun r3 => cz_getI h2 l0 [(2, 2)] (fun x4 => cz_rc h2 l0 [2] (cz_cV (fn_J2_add_2 l0 l1 r3 x4 h2) (fun h11 => some (.inl (some (cz_i 1)), h11)))))))
set_option maxHeartbeats 4000000 in
set_option maxRecDepth 100000 in
theorem wk_J2_add {K : cz_K} {D : cz_D} {h0 : cz_H} {oh : cz_O × cz_H} {l0 : Option Nat} {l1 : Option Nat} {h : cz_H} (S : cz_S K D h0 cJ2_add 2 "java/util/ArrayList" ((Option.some Jvm.ClassFile.FieldType.boolean)) "add" ([])) : cz_T K D 8 h0 oh 2 (fn_J2_add l0 l1 h) h 0 [(0, cz_r l0), (1, cz_r l1)] [] := by
  unfold fn_J2_add
  refine ct_aload_n (k := 0) S dJ2_add_0 rfl rfl ?_
  refine ct_dup S dJ2_add_1 rfl ?_
  refine ct_getI S fw_J2_63 dJ2_add_2 (fun x1 => ?_)
  refine ct_iconst (v := 1) S dJ2_add_5 kI_1 ?_
  refine ct_iadd S dJ2_add_6 ?_
  refine ct_put S fw_J2_63 fp_J2_m_2_0 (cz_fits_i pd_I) dJ2_add_7 (fun h2 => ?_)
  refine ct_aload_n (k := 0) S dJ2_add_10 rfl rfl ?_
  refine ct_aload_n (k := 1) S dJ2_add_11 rfl rfl ?_
  refine ct_aload_n (k := 0) S dJ2_add_12 rfl rfl ?_
  refine ct_getR S fw_J2_9 dJ2_add_13 (fun r3 => ?_)
  refine ct_aload_n (k := 0) S dJ2_add_16 rfl rfl ?_
  refine ct_getI S fw_J2_48 dJ2_add_17 (fun x4 => ?_)
  refine ct_rc (fun b5 ci6 V7 hb8 hc9 hi10 => ?_)
  refine ct_cV (st := []) (cg_virtual (av := [cz_r l1, cz_r r3, cz_i x4]) S hb8 hc9 hi10 (fun _ e => mt_J2_add_2 e) md_J2_add_2 q954 q956 se_java_util_ArrayList_add__Ljava_lang_Object__Ljava_lang_Object_I_V_java_util_ArrayList (by decide) (Nat.le_of_ble_eq_true rfl) rfl dJ2_add_20) (fun h11 => ?_)
  refine ct_iconst (v := 1) S dJ2_add_23 kI_1 ?_
  exact ct_zr (ty := .boolean) S rfl rfl dJ2_add_24
theorem mt_J2_add {l : Launch} {D : cz_D} {l0 : Option Nat} {l1 : Option Nat} {h : cz_H} {oh : cz_O × cz_H} (hz : fn_J2_add l0 l1 h = some oh) : cz_M l D yJ2_add (ws_ yJ2_add cJ2_add 2 ((Option.some Jvm.ClassFile.FieldType.boolean))) 8 [cz_r l0, cz_r l1] h oh := cz_met (plainFor_of_name (by decide)) (Nat.le_of_ble_eq_true rfl) hz (fun K hl S => wk_J2_add S)
/-! HeldCoats$Act.<init>()V -/
theorem dX12_init_0 : decode cX12_init 0 = .ok (.aload_n 0, 1) := by decide +kernel
theorem dX12_init_1 : decode cX12_init 1 = .ok (.invokespecial 1, 3) := by decide +kernel
theorem dX12_init_4 : decode cX12_init 4 = .ok (.return_, 1) := by decide +kernel
set_option maxHeartbeats 4000000 in
set_option maxRecDepth 100000 in
noncomputable def fn_X12_init (l0 : Option Nat) (h : cz_H) : cz_Z := cz_nn' l0 (some (.inl none, h))
set_option maxHeartbeats 4000000 in
set_option maxRecDepth 100000 in
theorem wk_X12_init {K : cz_K} {D : cz_D} {h0 : cz_H} {oh : cz_O × cz_H} {l0 : Option Nat} {h : cz_H} (S : cz_S K D h0 cX12_init 1 "HeldCoats$Act" ((Option.none : Option Jvm.ClassFile.FieldType)) "<init>" ([])) : cz_T K D 3 h0 oh 1 (fn_X12_init l0 h) h 0 [(0, cz_r l0)] [] := by
  unfold fn_X12_init
  refine ct_aload_n (k := 0) S dX12_init_0 rfl rfl ?_
  refine ct_oinit S q1164 q165 q166 (by decide) (Nat.le_of_ble_eq_true rfl) dX12_init_1 ?_
  exact ct_vret S rfl dX12_init_4
theorem mt_X12_init {l : Launch} {D : cz_D} {l0 : Option Nat} {h : cz_H} {oh : cz_O × cz_H} (hz : fn_X12_init l0 h = some oh) : cz_M l D yX12_init (ws_ yX12_init cX12_init 1 ((Option.none : Option Jvm.ClassFile.FieldType))) 3 [cz_r l0] h oh := cz_met (plainFor_of_name (by decide)) (Nat.le_of_ble_eq_true rfl) hz (fun K hl S => wk_X12_init S)
/-! HeldCoats$OfCoat.<init>(I)V -/
def dkwX13_init_0 : List UInt8 := [42, 183, 0, 1, 42, 27, 181, 0, 7, 177]
abbrev dktX13_init_0 : List UInt8 := dkwX13_init_0 ++ []
theorem dksX13_init_0 : cX13_init.data.toList.drop 0 = dktX13_init_0 := by decide +kernel
theorem dX13_init_0 : decode cX13_init 0 = .ok (.aload_n 0, 1) := dk_42 (dk_at dksX13_init_0 0 rfl rfl)
theorem dX13_init_1 : decode cX13_init 1 = .ok (.invokespecial 1, 3) := dk_183 0 1 (dk_at dksX13_init_0 1 rfl rfl)
theorem dX13_init_4 : decode cX13_init 4 = .ok (.aload_n 0, 1) := dk_42 (dk_at dksX13_init_0 4 rfl rfl)
theorem dX13_init_5 : decode cX13_init 5 = .ok (.iload_n 1, 1) := dk_27 (dk_at dksX13_init_0 5 rfl rfl)
theorem dX13_init_6 : decode cX13_init 6 = .ok (.putfield 7, 3) := dk_181 0 7 (dk_at dksX13_init_0 6 rfl rfl)
theorem dX13_init_9 : decode cX13_init 9 = .ok (.return_, 1) := dk_177 (dk_at dksX13_init_0 9 rfl rfl)
theorem nh_HeldCoats_Act__init____V : cz_nh ⟨"HeldCoats$Act", "<init>", "()V"⟩ 0 := ⟨by decide, by decide, by decide +kernel⟩
theorem fw_X13_7 : cz_FW "HeldCoats$OfCoat" 7 [(12, 1), (13, 1), (14, 1), (15, 0)] "I" := ⟨"HeldCoats$OfCoat", "coat", Or.inl q1172, List.forall_mem_cons.mpr ⟨⟨RX15, TX15, 2, rfl, by decide, rfl, rfl, Or.inl rfl⟩, List.forall_mem_cons.mpr ⟨⟨RX18, TX18, 2, rfl, by decide, rfl, rfl, Or.inl rfl⟩, List.forall_mem_cons.mpr ⟨⟨RX16, TX16, 2, rfl, by decide, rfl, rfl, Or.inl rfl⟩, List.forall_mem_cons.mpr ⟨⟨RX17, TX17, 1, rfl, by decide, rfl, rfl, Or.inl rfl⟩, fun _ h => absurd h List.not_mem_nil⟩⟩⟩⟩, by decide⟩
theorem fp_X13_i_12_1_13_1_14_1_15_0 : cz_FP "HeldCoats$OfCoat" "<init>" [(12, 1), (13, 1), (14, 1), (15, 0)] := List.forall_mem_cons.mpr ⟨⟨RX15, TX15, 2, rfl, Or.inr ⟨rfl, rfl, rfl⟩⟩, List.forall_mem_cons.mpr ⟨⟨RX18, TX18, 2, rfl, Or.inr ⟨rfl, rfl, rfl⟩⟩, List.forall_mem_cons.mpr ⟨⟨RX16, TX16, 2, rfl, Or.inr ⟨rfl, rfl, rfl⟩⟩, List.forall_mem_cons.mpr ⟨⟨RX17, TX17, 1, rfl, Or.inr ⟨rfl, rfl, rfl⟩⟩, fun _ h => absurd h List.not_mem_nil⟩⟩⟩⟩
set_option maxHeartbeats 4000000 in
set_option maxRecDepth 100000 in
noncomputable def fn_X13_init (l0 : Option Nat) (l1 : Int32) (h : cz_H) : cz_Z := cz_nn' l0 (cz_cV (fn_X12_init l0 h) (fun h3 => cz_put h3 l0 [(12, 1), (13, 1), (14, 1), (15, 0)] (cz_i l1) (fun h4 => some (.inl none, h4))))
set_option maxHeartbeats 4000000 in
set_option maxRecDepth 100000 in
theorem wk_X13_init {K : cz_K} {D : cz_D} {h0 : cz_H} {oh : cz_O × cz_H} {l0 : Option Nat} {l1 : Int32} {h : cz_H} (S : cz_S K D h0 cX13_init 2 "HeldCoats$OfCoat" ((Option.none : Option Jvm.ClassFile.FieldType)) "<init>" ([])) : cz_T K D 4 h0 oh 2 (fn_X13_init l0 l1 h) h 0 [(0, cz_r l0), (1, cz_i l1)] [] := by
  unfold fn_X13_init
  refine ct_aload_n (k := 0) S dX13_init_0 rfl rfl ?_
  refine ct_nn (fun b1 hb2 => ?_)
  refine ct_cV (st := []) (cg_init (av := []) S hb2 (fun _ e => mt_X12_init e) q1163 (Or.inr ⟨_, q1161⟩) rfl q1162 q142 nh_HeldCoats_Act__init____V (by decide) (by decide) (Nat.le_of_ble_eq_true rfl) rfl dX13_init_1) (fun h3 => ?_)
  refine ct_aload_n (k := 0) S dX13_init_4 rfl rfl ?_
  refine ct_iload_n (k := 1) S dX13_init_5 rfl rfl ?_
  refine ct_put S fw_X13_7 fp_X13_i_12_1_13_1_14_1_15_0 (cz_fits_i pd_I) dX13_init_6 (fun h4 => ?_)
  exact ct_vret S rfl dX13_init_9
theorem mt_X13_init {l : Launch} {D : cz_D} {l0 : Option Nat} {l1 : Int32} {h : cz_H} {oh : cz_O × cz_H} (hz : fn_X13_init l0 l1 h = some oh) : cz_M l D yX13_init (ws_ yX13_init cX13_init 2 ((Option.none : Option Jvm.ClassFile.FieldType))) 4 [cz_r l0, cz_i l1] h oh := cz_met (plainFor_of_name (by decide)) (Nat.le_of_ble_eq_true rfl) hz (fun K hl S => wk_X13_init S)
/-! HeldCoats$With.<init>(II)V -/
def dkwX14_init_0 : List UInt8 := [42, 27, 183, 0, 1, 42, 28, 181, 0, 7, 177]
abbrev dktX14_init_0 : List UInt8 := dkwX14_init_0 ++ []
theorem dksX14_init_0 : cX14_init.data.toList.drop 0 = dktX14_init_0 := by decide +kernel
theorem dX14_init_0 : decode cX14_init 0 = .ok (.aload_n 0, 1) := dk_42 (dk_at dksX14_init_0 0 rfl rfl)
theorem dX14_init_1 : decode cX14_init 1 = .ok (.iload_n 1, 1) := dk_27 (dk_at dksX14_init_0 1 rfl rfl)
theorem dX14_init_2 : decode cX14_init 2 = .ok (.invokespecial 1, 3) := dk_183 0 1 (dk_at dksX14_init_0 2 rfl rfl)
theorem dX14_init_5 : decode cX14_init 5 = .ok (.aload_n 0, 1) := dk_42 (dk_at dksX14_init_0 5 rfl rfl)
theorem dX14_init_6 : decode cX14_init 6 = .ok (.iload_n 2, 1) := dk_28 (dk_at dksX14_init_0 6 rfl rfl)
theorem dX14_init_7 : decode cX14_init 7 = .ok (.putfield 7, 3) := dk_181 0 7 (dk_at dksX14_init_0 7 rfl rfl)
theorem dX14_init_10 : decode cX14_init 10 = .ok (.return_, 1) := dk_177 (dk_at dksX14_init_0 10 rfl rfl)
theorem nh_HeldCoats_OfCoat__init___I_V : cz_nh ⟨"HeldCoats$OfCoat", "<init>", "(I)V"⟩ 1 := ⟨by decide, by decide, by decide +kernel⟩
theorem fw_X14_7 : cz_FW "HeldCoats$With" 7 [(12, 0), (13, 0), (14, 0)] "I" := ⟨"HeldCoats$With", "other", Or.inl q1165, List.forall_mem_cons.mpr ⟨⟨RX15, TX15, 2, rfl, by decide, rfl, rfl, Or.inl rfl⟩, List.forall_mem_cons.mpr ⟨⟨RX18, TX18, 2, rfl, by decide, rfl, rfl, Or.inl rfl⟩, List.forall_mem_cons.mpr ⟨⟨RX16, TX16, 2, rfl, by decide, rfl, rfl, Or.inl rfl⟩, fun _ h => absurd h List.not_mem_nil⟩⟩⟩, by decide⟩
theorem fp_X14_i_12_0_13_0_14_0 : cz_FP "HeldCoats$With" "<init>" [(12, 0), (13, 0), (14, 0)] := List.forall_mem_cons.mpr ⟨⟨RX15, TX15, 2, rfl, Or.inr ⟨rfl, rfl, rfl⟩⟩, List.forall_mem_cons.mpr ⟨⟨RX18, TX18, 2, rfl, Or.inr ⟨rfl, rfl, rfl⟩⟩, List.forall_mem_cons.mpr ⟨⟨RX16, TX16, 2, rfl, Or.inr ⟨rfl, rfl, rfl⟩⟩, fun _ h => absurd h List.not_mem_nil⟩⟩⟩
set_option maxHeartbeats 4000000 in
set_option maxRecDepth 100000 in
noncomputable def fn_X14_init (l0 : Option Nat) (l1 : Int32) (l2 : Int32) (h : cz_H) : cz_Z := cz_nn' l0 (cz_cV (fn_X13_init l0 l1 h) (fun h3 => cz_put h3 l0 [(12, 0), (13, 0), (14, 0)] (cz_i l2) (fun h4 => some (.inl none, h4))))
set_option maxHeartbeats 4000000 in
set_option maxRecDepth 100000 in
theorem wk_X14_init {K : cz_K} {D : cz_D} {h0 : cz_H} {oh : cz_O × cz_H} {l0 : Option Nat} {l1 : Int32} {l2 : Int32} {h : cz_H} (S : cz_S K D h0 cX14_init 3 "HeldCoats$With" ((Option.none : Option Jvm.ClassFile.FieldType)) "<init>" ([])) : cz_T K D 5 h0 oh 3 (fn_X14_init l0 l1 l2 h) h 0 [(0, cz_r l0), (1, cz_i l1), (2, cz_i l2)] [] := by
  unfold fn_X14_init
  refine ct_aload_n (k := 0) S dX14_init_0 rfl rfl ?_
  refine ct_iload_n (k := 1) S dX14_init_1 rfl rfl ?_
  refine ct_nn (fun b1 hb2 => ?_)
  refine ct_cV (st := []) (cg_init (av := [cz_i l1]) S hb2 (fun _ e => mt_X13_init e) q1160 (Or.inl q1158) rfl q1159 q143 nh_HeldCoats_OfCoat__init___I_V (by decide) (by decide) (Nat.le_of_ble_eq_true rfl) rfl dX14_init_2) (fun h3 => ?_)
  refine ct_aload_n (k := 0) S dX14_init_5 rfl rfl ?_
  refine ct_iload_n (k := 2) S dX14_init_6 rfl rfl ?_
  refine ct_put S fw_X14_7 fp_X14_i_12_0_13_0_14_0 (cz_fits_i pd_I) dX14_init_7 (fun h4 => ?_)
  exact ct_vret S rfl dX14_init_10
theorem mt_X14_init {l : Launch} {D : cz_D} {l0 : Option Nat} {l1 : Int32} {l2 : Int32} {h : cz_H} {oh : cz_O × cz_H} (hz : fn_X14_init l0 l1 l2 h = some oh) : cz_M l D yX14_init (ws_ yX14_init cX14_init 3 ((Option.none : Option Jvm.ClassFile.FieldType))) 5 [cz_r l0, cz_i l1, cz_i l2] h oh := cz_met (plainFor_of_name (by decide)) (Nat.le_of_ble_eq_true rfl) hz (fun K hl S => wk_X14_init S)
/-! HeldCoats$Lies.<init>(II)V -/
def dkwX15_init_0 : List UInt8 := [42, 27, 28, 183, 0, 1, 177]
abbrev dktX15_init_0 : List UInt8 := dkwX15_init_0 ++ []
theorem dksX15_init_0 : cX15_init.data.toList.drop 0 = dktX15_init_0 := by decide +kernel
theorem dX15_init_0 : decode cX15_init 0 = .ok (.aload_n 0, 1) := dk_42 (dk_at dksX15_init_0 0 rfl rfl)
theorem dX15_init_1 : decode cX15_init 1 = .ok (.iload_n 1, 1) := dk_27 (dk_at dksX15_init_0 1 rfl rfl)
theorem dX15_init_2 : decode cX15_init 2 = .ok (.iload_n 2, 1) := dk_28 (dk_at dksX15_init_0 2 rfl rfl)
theorem dX15_init_3 : decode cX15_init 3 = .ok (.invokespecial 1, 3) := dk_183 0 1 (dk_at dksX15_init_0 3 rfl rfl)
theorem dX15_init_6 : decode cX15_init 6 = .ok (.return_, 1) := dk_177 (dk_at dksX15_init_0 6 rfl rfl)
theorem nh_HeldCoats_With__init___II_V : cz_nh ⟨"HeldCoats$With", "<init>", "(II)V"⟩ 2 := ⟨by decide, by decide, by decide +kernel⟩
set_option maxHeartbeats 4000000 in
set_option maxRecDepth 100000 in
noncomputable def fn_X15_init (l0 : Option Nat) (l1 : Int32) (l2 : Int32) (h : cz_H) : cz_Z := cz_nn' l0 (cz_cV (fn_X14_init l0 l1 l2 h) (fun h3 => some (.inl none, h3)))
set_option maxHeartbeats 4000000 in
set_option maxRecDepth 100000 in
theorem wk_X15_init {K : cz_K} {D : cz_D} {h0 : cz_H} {oh : cz_O × cz_H} {l0 : Option Nat} {l1 : Int32} {l2 : Int32} {h : cz_H} (S : cz_S K D h0 cX15_init 3 "HeldCoats$Lies" ((Option.none : Option Jvm.ClassFile.FieldType)) "<init>" ([])) : cz_T K D 6 h0 oh 3 (fn_X15_init l0 l1 l2 h) h 0 [(0, cz_r l0), (1, cz_i l1), (2, cz_i l2)] [] := by
  unfold fn_X15_init
  refine ct_aload_n (k := 0) S dX15_init_0 rfl rfl ?_
  refine ct_iload_n (k := 1) S dX15_init_1 rfl rfl ?_
  refine ct_iload_n (k := 2) S dX15_init_2 rfl rfl ?_
  refine ct_nn (fun b1 hb2 => ?_)
  refine ct_cV (st := []) (cg_init (av := [cz_i l1, cz_i l2]) S hb2 (fun _ e => mt_X14_init e) q1157 (Or.inl q1155) rfl q1156 q144 nh_HeldCoats_With__init___II_V (by decide) (by decide) (Nat.le_of_ble_eq_true rfl) rfl dX15_init_3) (fun h3 => ?_)
  exact ct_vret S rfl dX15_init_6
theorem mt_X15_init {l : Launch} {D : cz_D} {l0 : Option Nat} {l1 : Int32} {l2 : Int32} {h : cz_H} {oh : cz_O × cz_H} (hz : fn_X15_init l0 l1 l2 h = some oh) : cz_M l D yX15_init (ws_ yX15_init cX15_init 3 ((Option.none : Option Jvm.ClassFile.FieldType))) 6 [cz_r l0, cz_i l1, cz_i l2] h oh := cz_met (plainFor_of_name (by decide)) (Nat.le_of_ble_eq_true rfl) hz (fun K hl S => wk_X15_init S)
/-! HeldCoats$Lent.<init>(II)V -/
def dkwX16_init_0 : List UInt8 := [42, 27, 28, 183, 0, 1, 177]
abbrev dktX16_init_0 : List UInt8 := dkwX16_init_0 ++ []
theorem dksX16_init_0 : cX16_init.data.toList.drop 0 = dktX16_init_0 := by decide +kernel
theorem dX16_init_0 : decode cX16_init 0 = .ok (.aload_n 0, 1) := dk_42 (dk_at dksX16_init_0 0 rfl rfl)
theorem dX16_init_1 : decode cX16_init 1 = .ok (.iload_n 1, 1) := dk_27 (dk_at dksX16_init_0 1 rfl rfl)
theorem dX16_init_2 : decode cX16_init 2 = .ok (.iload_n 2, 1) := dk_28 (dk_at dksX16_init_0 2 rfl rfl)
theorem dX16_init_3 : decode cX16_init 3 = .ok (.invokespecial 1, 3) := dk_183 0 1 (dk_at dksX16_init_0 3 rfl rfl)
theorem dX16_init_6 : decode cX16_init 6 = .ok (.return_, 1) := dk_177 (dk_at dksX16_init_0 6 rfl rfl)
set_option maxHeartbeats 4000000 in
set_option maxRecDepth 100000 in
noncomputable def fn_X16_init (l0 : Option Nat) (l1 : Int32) (l2 : Int32) (h : cz_H) : cz_Z := cz_nn' l0 (cz_cV (fn_X14_init l0 l1 l2 h) (fun h3 => some (.inl none, h3)))
set_option maxHeartbeats 4000000 in
set_option maxRecDepth 100000 in
theorem wk_X16_init {K : cz_K} {D : cz_D} {h0 : cz_H} {oh : cz_O × cz_H} {l0 : Option Nat} {l1 : Int32} {l2 : Int32} {h : cz_H} (S : cz_S K D h0 cX16_init 3 "HeldCoats$Lent" ((Option.none : Option Jvm.ClassFile.FieldType)) "<init>" ([])) : cz_T K D 6 h0 oh 3 (fn_X16_init l0 l1 l2 h) h 0 [(0, cz_r l0), (1, cz_i l1), (2, cz_i l2)] [] := by
  unfold fn_X16_init
  refine ct_aload_n (k := 0) S dX16_init_0 rfl rfl ?_
  refine ct_iload_n (k := 1) S dX16_init_1 rfl rfl ?_
  refine ct_iload_n (k := 2) S dX16_init_2 rfl rfl ?_
  refine ct_nn (fun b1 hb2 => ?_)
  refine ct_cV (st := []) (cg_init (av := [cz_i l1, cz_i l2]) S hb2 (fun _ e => mt_X14_init e) q1157 (Or.inl q1335) rfl q1156 q144 nh_HeldCoats_With__init___II_V (by decide) (by decide) (Nat.le_of_ble_eq_true rfl) rfl dX16_init_3) (fun h3 => ?_)
  exact ct_vret S rfl dX16_init_6
theorem mt_X16_init {l : Launch} {D : cz_D} {l0 : Option Nat} {l1 : Int32} {l2 : Int32} {h : cz_H} {oh : cz_O × cz_H} (hz : fn_X16_init l0 l1 l2 h = some oh) : cz_M l D yX16_init (ws_ yX16_init cX16_init 3 ((Option.none : Option Jvm.ClassFile.FieldType))) 6 [cz_r l0, cz_i l1, cz_i l2] h oh := cz_met (plainFor_of_name (by decide)) (Nat.le_of_ble_eq_true rfl) hz (fun K hl S => wk_X16_init S)
/-! HeldCoats$Stored.<init>(I)V -/
def dkwX17_init_0 : List UInt8 := [42, 27, 183, 0, 1, 177]
abbrev dktX17_init_0 : List UInt8 := dkwX17_init_0 ++ []
theorem dksX17_init_0 : cX17_init.data.toList.drop 0 = dktX17_init_0 := by decide +kernel
theorem dX17_init_0 : decode cX17_init 0 = .ok (.aload_n 0, 1) := dk_42 (dk_at dksX17_init_0 0 rfl rfl)
theorem dX17_init_1 : decode cX17_init 1 = .ok (.iload_n 1, 1) := dk_27 (dk_at dksX17_init_0 1 rfl rfl)
theorem dX17_init_2 : decode cX17_init 2 = .ok (.invokespecial 1, 3) := dk_183 0 1 (dk_at dksX17_init_0 2 rfl rfl)
theorem dX17_init_5 : decode cX17_init 5 = .ok (.return_, 1) := dk_177 (dk_at dksX17_init_0 5 rfl rfl)
set_option maxHeartbeats 4000000 in
set_option maxRecDepth 100000 in
noncomputable def fn_X17_init (l0 : Option Nat) (l1 : Int32) (h : cz_H) : cz_Z := cz_nn' l0 (cz_cV (fn_X13_init l0 l1 h) (fun h3 => some (.inl none, h3)))
set_option maxHeartbeats 4000000 in
set_option maxRecDepth 100000 in
theorem wk_X17_init {K : cz_K} {D : cz_D} {h0 : cz_H} {oh : cz_O × cz_H} {l0 : Option Nat} {l1 : Int32} {h : cz_H} (S : cz_S K D h0 cX17_init 2 "HeldCoats$Stored" ((Option.none : Option Jvm.ClassFile.FieldType)) "<init>" ([])) : cz_T K D 5 h0 oh 2 (fn_X17_init l0 l1 h) h 0 [(0, cz_r l0), (1, cz_i l1)] [] := by
  unfold fn_X17_init
  refine ct_aload_n (k := 0) S dX17_init_0 rfl rfl ?_
  refine ct_iload_n (k := 1) S dX17_init_1 rfl rfl ?_
  refine ct_nn (fun b1 hb2 => ?_)
  refine ct_cV (st := []) (cg_init (av := [cz_i l1]) S hb2 (fun _ e => mt_X13_init e) q1160 (Or.inl q1348) rfl q1159 q143 nh_HeldCoats_OfCoat__init___I_V (by decide) (by decide) (Nat.le_of_ble_eq_true rfl) rfl dX17_init_2) (fun h3 => ?_)
  exact ct_vret S rfl dX17_init_5
theorem mt_X17_init {l : Launch} {D : cz_D} {l0 : Option Nat} {l1 : Int32} {h : cz_H} {oh : cz_O × cz_H} (hz : fn_X17_init l0 l1 h = some oh) : cz_M l D yX17_init (ws_ yX17_init cX17_init 2 ((Option.none : Option Jvm.ClassFile.FieldType))) 5 [cz_r l0, cz_i l1] h oh := cz_met (plainFor_of_name (by decide)) (Nat.le_of_ble_eq_true rfl) hz (fun K hl S => wk_X17_init S)
/-! java/lang/StringLatin1.canEncode(C)Z -/
def dkwJ12_canEncode_0 : List UInt8 := [26, 17, 0, 255, 163, 0, 7, 4, 167, 0, 4, 3, 172]
abbrev dktJ12_canEncode_0 : List UInt8 := dkwJ12_canEncode_0 ++ []
theorem dksJ12_canEncode_0 : cJ12_canEncode.data.toList.drop 0 = dktJ12_canEncode_0 := by decide +kernel
theorem dJ12_canEncode_0 : decode cJ12_canEncode 0 = .ok (.iload_n 0, 1) := dk_26 (dk_at dksJ12_canEncode_0 0 rfl rfl)
theorem dJ12_canEncode_1 : decode cJ12_canEncode 1 = .ok (.sipush 255, 3) := dk_17 0 255 (dk_at dksJ12_canEncode_0 1 rfl rfl)
theorem dJ12_canEncode_4 : decode cJ12_canEncode 4 = .ok (.if_icmp .gt 7, 3) := dk_163 0 7 (dk_at dksJ12_canEncode_0 4 rfl rfl)
theorem dJ12_canEncode_7 : decode cJ12_canEncode 7 = .ok (.iconst 1, 1) := dk_4 (dk_at dksJ12_canEncode_0 7 rfl rfl)
theorem dJ12_canEncode_8 : decode cJ12_canEncode 8 = .ok (.goto 4, 3) := dk_167 0 4 (dk_at dksJ12_canEncode_0 8 rfl rfl)
theorem dJ12_canEncode_11 : decode cJ12_canEncode 11 = .ok (.iconst 0, 1) := dk_3 (dk_at dksJ12_canEncode_0 11 rfl rfl)
theorem dJ12_canEncode_12 : decode cJ12_canEncode 12 = .ok (.ireturn, 1) := dk_172 (dk_at dksJ12_canEncode_0 12 rfl rfl)
set_option maxHeartbeats 4000000 in
set_option maxRecDepth 100000 in
noncomputable def fn_J12_canEncode (l0 : Int32) (h : cz_H) : cz_Z := (if (255 : Int32) < l0 then some (.inl (some (cz_i 0)), h) else some (.inl (some (cz_i 1)), h))
set_option maxHeartbeats 4000000 in
set_option maxRecDepth 100000 in
theorem wk_J12_canEncode {K : cz_K} {D : cz_D} {h0 : cz_H} {oh : cz_O × cz_H} {l0 : Int32} {h : cz_H} (S : cz_S K D h0 cJ12_canEncode 1 "java/lang/StringLatin1" ((Option.some Jvm.ClassFile.FieldType.boolean)) "canEncode" ([])) : cz_T K D 2 h0 oh 1 (fn_J12_canEncode l0 h) h 0 [(0, cz_i l0)] [] := by
  unfold fn_J12_canEncode
  refine ct_iload_n (k := 0) S dJ12_canEncode_0 rfl rfl ?_
  refine ct_sipush (v := 255) S dJ12_canEncode_1 kS_255 ?_
  refine ct_icmp_gt (tgt := 11) S dJ12_canEncode_4 (by decide) ?_ ?_
  · refine ct_iconst (v := 0) S dJ12_canEncode_11 kI_0 ?_
    exact ct_zr (ty := .boolean) S rfl rfl dJ12_canEncode_12
  · refine ct_iconst (v := 1) S dJ12_canEncode_7 kI_1 ?_
    refine ct_goto (tgt := 12) S dJ12_canEncode_8 (by decide) ?_
    exact ct_zr (ty := .boolean) S rfl rfl dJ12_canEncode_12
theorem mt_J12_canEncode {l : Launch} {D : cz_D} {l0 : Int32} {h : cz_H} {oh : cz_O × cz_H} (hz : fn_J12_canEncode l0 h = some oh) : cz_M l D yJ12_canEncode (ws_ yJ12_canEncode cJ12_canEncode 1 ((Option.some Jvm.ClassFile.FieldType.boolean))) 2 [cz_i l0] h oh := cz_met (plainFor_of_name (by decide)) (Nat.le_of_ble_eq_true rfl) hz (fun K hl S => wk_J12_canEncode S)
/-! java/util/Arrays.copyOf([BI)[B -/
def dkwJ3_copyOf_1 : List UInt8 := [27, 184, 1, 48, 184, 0, 150, 44, 176]
abbrev dktJ3_copyOf_1 : List UInt8 := dkwJ3_copyOf_1 ++ []
def dkwJ3_copyOf_0 : List UInt8 := [27, 42, 190, 160, 0, 11, 42, 182, 1, 54, 192, 1, 55, 176, 27, 188, 8, 77, 42, 3, 44, 3, 42, 190]
abbrev dktJ3_copyOf_0 : List UInt8 := dkwJ3_copyOf_0 ++ dktJ3_copyOf_1
theorem dksJ3_copyOf_0 : cJ3_copyOf.data.toList.drop 0 = dktJ3_copyOf_0 := by decide +kernel
theorem dksJ3_copyOf_1 : cJ3_copyOf.data.toList.drop 24 = dktJ3_copyOf_1 := dk_seg dksJ3_copyOf_0 24 rfl rfl
theorem dJ3_copyOf_0 : decode cJ3_copyOf 0 = .ok (.iload_n 1, 1) := dk_27 (dk_at dksJ3_copyOf_0 0 rfl rfl)
theorem dJ3_copyOf_1 : decode cJ3_copyOf 1 = .ok (.aload_n 0, 1) := dk_42 (dk_at dksJ3_copyOf_0 1 rfl rfl)
theorem dJ3_copyOf_2 : decode cJ3_copyOf 2 = .ok (.arraylength, 1) := dk_190 (dk_at dksJ3_copyOf_0 2 rfl rfl)
theorem dJ3_copyOf_3 : decode cJ3_copyOf 3 = .ok (.if_icmp .ne 11, 3) := dk_160 0 11 (dk_at dksJ3_copyOf_0 3 rfl rfl)
theorem dJ3_copyOf_6 : decode cJ3_copyOf 6 = .ok (.aload_n 0, 1) := dk_42 (dk_at dksJ3_copyOf_0 6 rfl rfl)
theorem dJ3_copyOf_7 : decode cJ3_copyOf 7 = .ok (.invokevirtual 310, 3) := dk_182 1 54 (dk_at dksJ3_copyOf_0 7 rfl rfl)
theorem dJ3_copyOf_10 : decode cJ3_copyOf 10 = .ok (.checkcast 311, 3) := dk_192 1 55 (dk_at dksJ3_copyOf_0 10 rfl rfl)
theorem dJ3_copyOf_13 : decode cJ3_copyOf 13 = .ok (.areturn, 1) := dk_176 (dk_at dksJ3_copyOf_0 13 rfl rfl)
theorem dJ3_copyOf_14 : decode cJ3_copyOf 14 = .ok (.iload_n 1, 1) := dk_27 (dk_at dksJ3_copyOf_0 14 rfl rfl)
theorem dJ3_copyOf_15 : decode cJ3_copyOf 15 = .ok (.newarray .byte, 2) := dk_188_8 (dk_at dksJ3_copyOf_0 15 rfl rfl)
theorem dJ3_copyOf_17 : decode cJ3_copyOf 17 = .ok (.astore_n 2, 1) := dk_77 (dk_at dksJ3_copyOf_0 17 rfl rfl)
theorem dJ3_copyOf_18 : decode cJ3_copyOf 18 = .ok (.aload_n 0, 1) := dk_42 (dk_at dksJ3_copyOf_0 18 rfl rfl)
theorem dJ3_copyOf_19 : decode cJ3_copyOf 19 = .ok (.iconst 0, 1) := dk_3 (dk_at dksJ3_copyOf_0 19 rfl rfl)
theorem dJ3_copyOf_20 : decode cJ3_copyOf 20 = .ok (.aload_n 2, 1) := dk_44 (dk_at dksJ3_copyOf_0 20 rfl rfl)
theorem dJ3_copyOf_21 : decode cJ3_copyOf 21 = .ok (.iconst 0, 1) := dk_3 (dk_at dksJ3_copyOf_0 21 rfl rfl)
theorem dJ3_copyOf_22 : decode cJ3_copyOf 22 = .ok (.aload_n 0, 1) := dk_42 (dk_at dksJ3_copyOf_0 22 rfl rfl)
theorem dJ3_copyOf_23 : decode cJ3_copyOf 23 = .ok (.arraylength, 1) := dk_190 (dk_at dksJ3_copyOf_0 23 rfl rfl)
theorem dJ3_copyOf_24 : decode cJ3_copyOf 24 = .ok (.iload_n 1, 1) := dk_27 (dk_at dksJ3_copyOf_1 0 rfl rfl)
theorem dJ3_copyOf_25 : decode cJ3_copyOf 25 = .ok (.invokestatic 304, 3) := dk_184 1 48 (dk_at dksJ3_copyOf_1 1 rfl rfl)
theorem dJ3_copyOf_28 : decode cJ3_copyOf 28 = .ok (.invokestatic 150, 3) := dk_184 0 150 (dk_at dksJ3_copyOf_1 4 rfl rfl)
theorem dJ3_copyOf_31 : decode cJ3_copyOf 31 = .ok (.aload_n 2, 1) := dk_44 (dk_at dksJ3_copyOf_1 7 rfl rfl)
theorem dJ3_copyOf_32 : decode cJ3_copyOf 32 = .ok (.areturn, 1) := dk_176 (dk_at dksJ3_copyOf_1 8 rfl rfl)
set_option maxHeartbeats 4000000 in
set_option maxRecDepth 100000 in
noncomputable def fn_J3_copyOf (l0 : Option Nat) (l1 : Int32) (h : cz_H) : cz_Z := cz_alen h l0 (fun x1 => (if l1 = x1 then none else cz_newi h 1 l1 (fun r2 h3 => cz_alen h3 l0 (fun x4 => cz_cI (fn_J11_min x4 l1 h3) (fun x6 h5 => cz_acp h5 l0 0 r2 0 x6 (fun h7 => some (.inl (some (cz_r r2)), h7)))))))
set_option maxHeartbeats 4000000 in
set_option maxRecDepth 100000 in
theorem wk_J3_copyOf {K : cz_K} {D : cz_D} {h0 : cz_H} {oh : cz_O × cz_H} {l0 : Option Nat} {l1 : Int32} {h : cz_H} (S : cz_S K D h0 cJ3_copyOf 3 "java/util/Arrays" ((Option.some (Jvm.ClassFile.FieldType.array Jvm.ClassFile.FieldType.byte))) "copyOf" ([])) : cz_T K D 3 h0 oh 3 (fn_J3_copyOf l0 l1 h) h 0 [(0, cz_r l0), (1, cz_i l1)] [] := by
  unfold fn_J3_copyOf
  refine ct_iload_n (k := 1) S dJ3_copyOf_0 rfl rfl ?_
  refine ct_aload_n (k := 0) S dJ3_copyOf_1 rfl rfl ?_
  refine ct_alen S dJ3_copyOf_2 (fun x1 => ?_)
  refine ct_icmp_ne (tgt := 14) S dJ3_copyOf_3 (by decide) ?_ ?_
  · refine ct_iload_n (k := 1) S dJ3_copyOf_14 rfl rfl ?_
    refine ct_newi_byte S dJ3_copyOf_15 (fun r2 h3 => ?_)
    refine ct_astore_n (L' := [(2, cz_r r2), (0, cz_r l0), (1, cz_i l1)]) S dJ3_copyOf_17 rfl (by decide) rfl ?_
    refine ct_aload_n (k := 1) S dJ3_copyOf_18 rfl rfl ?_
    refine ct_iconst (v := 0) S dJ3_copyOf_19 kI_0 ?_
    refine ct_aload_n (k := 0) S dJ3_copyOf_20 rfl rfl ?_
    refine ct_iconst (v := 0) S dJ3_copyOf_21 kI_0 ?_
    refine ct_aload_n (k := 1) S dJ3_copyOf_22 rfl rfl ?_
    refine ct_alen S dJ3_copyOf_23 (fun x4 => ?_)
    refine ct_iload_n (k := 2) S dJ3_copyOf_24 rfl rfl ?_
    refine ct_cI (st := [cz_i 0, cz_r r2, cz_i 0, cz_r l0]) (cg_static (av := [cz_i x4, cz_i l1]) S (fun _ e => mt_J11_min e) md_J11_min (Or.inl q599) q600 (by decide) (Nat.le_of_ble_eq_true rfl) rfl dJ3_copyOf_25) (fun x6 h5 => ?_)
    refine ct_acp S q602 q604 q603 q132 (by decide) (Nat.le_of_ble_eq_true rfl) dJ3_copyOf_28 (fun h7 => ?_)
    refine ct_aload_n (k := 0) S dJ3_copyOf_31 rfl rfl ?_
    exact ct_aret S rfl (Or.inr ⟨_, rfl⟩) dJ3_copyOf_32
  · refine ct_aload_n (k := 0) S dJ3_copyOf_6 rfl rfl ?_
    exact ct_none
theorem mt_J3_copyOf {l : Launch} {D : cz_D} {l0 : Option Nat} {l1 : Int32} {h : cz_H} {oh : cz_O × cz_H} (hz : fn_J3_copyOf l0 l1 h = some oh) : cz_M l D yJ3_copyOf (ws_ yJ3_copyOf cJ3_copyOf 3 ((Option.some (Jvm.ClassFile.FieldType.array Jvm.ClassFile.FieldType.byte)))) 3 [cz_r l0, cz_i l1] h oh := cz_met (plainFor_of_name (by decide)) (Nat.le_of_ble_eq_true rfl) hz (fun K hl S => wk_J3_copyOf S)
/-! java/lang/AbstractStringBuilder.newCapacity(I)I -/
def dkwJ6_newCapacity_2 : List UInt8 := [183, 0, 124, 191, 21, 5, 42, 180, 0, 22, 122, 172]
abbrev dktJ6_newCapacity_2 : List UInt8 := dkwJ6_newCapacity_2 ++ []
def dkwJ6_newCapacity_1 : List UInt8 := [180, 0, 22, 120, 96, 184, 0, 114, 54, 5, 21, 5, 18, 39, 160, 0, 13, 187, 0, 120, 89, 18, 122]
abbrev dktJ6_newCapacity_1 : List UInt8 := dkwJ6_newCapacity_1 ++ dktJ6_newCapacity_2
def dkwJ6_newCapacity_0 : List UInt8 := [42, 180, 0, 15, 190, 61, 27, 42, 180, 0, 22, 120, 62, 29, 28, 100, 54, 4, 28, 21, 4, 28, 5, 42]
abbrev dktJ6_newCapacity_0 : List UInt8 := dkwJ6_newCapacity_0 ++ dktJ6_newCapacity_1
theorem dksJ6_newCapacity_0 : cJ6_newCapacity.data.toList.drop 0 = dktJ6_newCapacity_0 := by decide +kernel
theorem dksJ6_newCapacity_1 : cJ6_newCapacity.data.toList.drop 24 = dktJ6_newCapacity_1 := dk_seg dksJ6_newCapacity_0 24 rfl rfl
theorem dksJ6_newCapacity_2 : cJ6_newCapacity.data.toList.drop 47 = dktJ6_newCapacity_2 := dk_seg dksJ6_newCapacity_1 23 rfl rfl
theorem dJ6_newCapacity_0 : decode cJ6_newCapacity 0 = .ok (.aload_n 0, 1) := dk_42 (dk_at dksJ6_newCapacity_0 0 rfl rfl)
theorem dJ6_newCapacity_1 : decode cJ6_newCapacity 1 = .ok (.getfield 15, 3) := dk_180 0 15 (dk_at dksJ6_newCapacity_0 1 rfl rfl)
theorem dJ6_newCapacity_4 : decode cJ6_newCapacity 4 = .ok (.arraylength, 1) := dk_190 (dk_at dksJ6_newCapacity_0 4 rfl rfl)
theorem dJ6_newCapacity_5 : decode cJ6_newCapacity 5 = .ok (.istore_n 2, 1) := dk_61 (dk_at dksJ6_newCapacity_0 5 rfl rfl)
theorem dJ6_newCapacity_6 : decode cJ6_newCapacity 6 = .ok (.iload_n 1, 1) := dk_27 (dk_at dksJ6_newCapacity_0 6 rfl rfl)
theorem dJ6_newCapacity_7 : decode cJ6_newCapacity 7 = .ok (.aload_n 0, 1) := dk_42 (dk_at dksJ6_newCapacity_0 7 rfl rfl)
theorem dJ6_newCapacity_8 : decode cJ6_newCapacity 8 = .ok (.getfield 22, 3) := dk_180 0 22 (dk_at dksJ6_newCapacity_0 8 rfl rfl)
theorem dJ6_newCapacity_11 : decode cJ6_newCapacity 11 = .ok (.ishl, 1) := dk_120 (dk_at dksJ6_newCapacity_0 11 rfl rfl)
theorem dJ6_newCapacity_12 : decode cJ6_newCapacity 12 = .ok (.istore_n 3, 1) := dk_62 (dk_at dksJ6_newCapacity_0 12 rfl rfl)
theorem dJ6_newCapacity_13 : decode cJ6_newCapacity 13 = .ok (.iload_n 3, 1) := dk_29 (dk_at dksJ6_newCapacity_0 13 rfl rfl)
theorem dJ6_newCapacity_14 : decode cJ6_newCapacity 14 = .ok (.iload_n 2, 1) := dk_28 (dk_at dksJ6_newCapacity_0 14 rfl rfl)
theorem dJ6_newCapacity_15 : decode cJ6_newCapacity 15 = .ok (.isub, 1) := dk_100 (dk_at dksJ6_newCapacity_0 15 rfl rfl)
theorem dJ6_newCapacity_16 : decode cJ6_newCapacity 16 = .ok (.istore 4, 2) := dk_54 4 (dk_at dksJ6_newCapacity_0 16 rfl rfl)
theorem dJ6_newCapacity_18 : decode cJ6_newCapacity 18 = .ok (.iload_n 2, 1) := dk_28 (dk_at dksJ6_newCapacity_0 18 rfl rfl)
theorem dJ6_newCapacity_19 : decode cJ6_newCapacity 19 = .ok (.iload 4, 2) := dk_21 4 (dk_at dksJ6_newCapacity_0 19 rfl rfl)
theorem dJ6_newCapacity_21 : decode cJ6_newCapacity 21 = .ok (.iload_n 2, 1) := dk_28 (dk_at dksJ6_newCapacity_0 21 rfl rfl)
theorem dJ6_newCapacity_22 : decode cJ6_newCapacity 22 = .ok (.iconst 2, 1) := dk_5 (dk_at dksJ6_newCapacity_0 22 rfl rfl)
theorem dJ6_newCapacity_23 : decode cJ6_newCapacity 23 = .ok (.aload_n 0, 1) := dk_42 (dk_at dksJ6_newCapacity_0 23 rfl rfl)
theorem dJ6_newCapacity_24 : decode cJ6_newCapacity 24 = .ok (.getfield 22, 3) := dk_180 0 22 (dk_at dksJ6_newCapacity_1 0 rfl rfl)
theorem dJ6_newCapacity_27 : decode cJ6_newCapacity 27 = .ok (.ishl, 1) := dk_120 (dk_at dksJ6_newCapacity_1 3 rfl rfl)
theorem dJ6_newCapacity_28 : decode cJ6_newCapacity 28 = .ok (.iadd, 1) := dk_96 (dk_at dksJ6_newCapacity_1 4 rfl rfl)
theorem dJ6_newCapacity_29 : decode cJ6_newCapacity 29 = .ok (.invokestatic 114, 3) := dk_184 0 114 (dk_at dksJ6_newCapacity_1 5 rfl rfl)
theorem dJ6_newCapacity_32 : decode cJ6_newCapacity 32 = .ok (.istore 5, 2) := dk_54 5 (dk_at dksJ6_newCapacity_1 8 rfl rfl)
theorem dJ6_newCapacity_34 : decode cJ6_newCapacity 34 = .ok (.iload 5, 2) := dk_21 5 (dk_at dksJ6_newCapacity_1 10 rfl rfl)
theorem dJ6_newCapacity_36 : decode cJ6_newCapacity 36 = .ok (.ldc 39, 2) := dk_18 39 (dk_at dksJ6_newCapacity_1 12 rfl rfl)
theorem dJ6_newCapacity_38 : decode cJ6_newCapacity 38 = .ok (.if_icmp .ne 13, 3) := dk_160 0 13 (dk_at dksJ6_newCapacity_1 14 rfl rfl)
theorem dJ6_newCapacity_41 : decode cJ6_newCapacity 41 = .ok (.new 120, 3) := dk_187 0 120 (dk_at dksJ6_newCapacity_1 17 rfl rfl)
theorem dJ6_newCapacity_44 : decode cJ6_newCapacity 44 = .ok (.dup, 1) := dk_89 (dk_at dksJ6_newCapacity_1 20 rfl rfl)
theorem dJ6_newCapacity_45 : decode cJ6_newCapacity 45 = .ok (.ldc 122, 2) := dk_18 122 (dk_at dksJ6_newCapacity_1 21 rfl rfl)
theorem dJ6_newCapacity_47 : decode cJ6_newCapacity 47 = .ok (.invokespecial 124, 3) := dk_183 0 124 (dk_at dksJ6_newCapacity_2 0 rfl rfl)
theorem dJ6_newCapacity_50 : decode cJ6_newCapacity 50 = .ok (.athrow, 1) := dk_191 (dk_at dksJ6_newCapacity_2 3 rfl rfl)
theorem dJ6_newCapacity_51 : decode cJ6_newCapacity 51 = .ok (.iload 5, 2) := dk_21 5 (dk_at dksJ6_newCapacity_2 4 rfl rfl)
theorem dJ6_newCapacity_53 : decode cJ6_newCapacity 53 = .ok (.aload_n 0, 1) := dk_42 (dk_at dksJ6_newCapacity_2 6 rfl rfl)
theorem dJ6_newCapacity_54 : decode cJ6_newCapacity 54 = .ok (.getfield 22, 3) := dk_180 0 22 (dk_at dksJ6_newCapacity_2 7 rfl rfl)
theorem dJ6_newCapacity_57 : decode cJ6_newCapacity 57 = .ok (.ishr, 1) := dk_122 (dk_at dksJ6_newCapacity_2 10 rfl rfl)
theorem dJ6_newCapacity_58 : decode cJ6_newCapacity 58 = .ok (.ireturn, 1) := dk_172 (dk_at dksJ6_newCapacity_2 11 rfl rfl)
theorem fw_J6_15 : cz_FW "java/lang/AbstractStringBuilder" 15 [(7, 0)] "[B" := ⟨"java/lang/AbstractStringBuilder", "value", Or.inl q550, List.forall_mem_cons.mpr ⟨⟨RJ7, TJ7, 4, rfl, by decide, rfl, rfl, Or.inl rfl⟩, fun _ h => absurd h List.not_mem_nil⟩, by decide⟩
theorem fw_J6_22 : cz_FW "java/lang/AbstractStringBuilder" 22 [(7, 1)] "B" := ⟨"java/lang/AbstractStringBuilder", "coder", Or.inl q551, List.forall_mem_cons.mpr ⟨⟨RJ7, TJ7, 4, rfl, by decide, rfl, rfl, Or.inl rfl⟩, fun _ h => absurd h List.not_mem_nil⟩, by decide⟩
set_option maxHeartbeats 4000000 in
set_option maxRecDepth 100000 in
noncomputable def fn_J6_newCapacity (l0 : Option Nat) (l1 : Int32) (h : cz_H) : cz_Z := cz_getR h l0 [(7, 0)] (fun r1 => cz_alen h r1 (fun x2 => cz_getI h l0 [(7, 1)] (fun x3 => cz_leti (l1 <<< (x3 &&& 31)) (fun x4 => cz_leti (x4 - x2) (fun x5 => cz_getI h l0 [(7, 1)] (fun x6 => cz_cI (fn_J10_newLength x2 x5 (x2 + ((2 : Int32) <<< (x6 &&& 31))) h) (fun x8 h7 => (if x8 = 2147483647 then none else cz_getI h7 l0 [(7, 1)] (fun x9 => some (.inl (some (cz_i (x8 >>> (x9 &&& 31)))), h7))))))))))
set_option maxHeartbeats 4000000 in
set_option maxRecDepth 100000 in
theorem wk_J6_newCapacity {K : cz_K} {D : cz_D} {h0 : cz_H} {oh : cz_O × cz_H} {l0 : Option Nat} {l1 : Int32} {h : cz_H} (S : cz_S K D h0 cJ6_newCapacity 6 "java/lang/AbstractStringBuilder" ((Option.some Jvm.ClassFile.FieldType.int)) "newCapacity" ([])) : cz_T K D 4 h0 oh 6 (fn_J6_newCapacity l0 l1 h) h 0 [(0, cz_r l0), (1, cz_i l1)] [] := by
  unfold fn_J6_newCapacity
  refine ct_aload_n (k := 0) S dJ6_newCapacity_0 rfl rfl ?_
  refine ct_getR S fw_J6_15 dJ6_newCapacity_1 (fun r1 => ?_)
  refine ct_alen S dJ6_newCapacity_4 (fun x2 => ?_)
  refine ct_istore_n (L' := [(2, cz_i x2), (0, cz_r l0), (1, cz_i l1)]) S dJ6_newCapacity_5 rfl (by decide) rfl ?_
  refine ct_iload_n (k := 2) S dJ6_newCapacity_6 rfl rfl ?_
  refine ct_aload_n (k := 1) S dJ6_newCapacity_7 rfl rfl ?_
  refine ct_getI S fw_J6_22 dJ6_newCapacity_8 (fun x3 => ?_)
  refine ct_ishl S dJ6_newCapacity_11 ?_
  refine ct_leti (fun x4 => ?_)
  refine ct_istore_n (L' := [(3, cz_i x4), (2, cz_i x2), (0, cz_r l0), (1, cz_i l1)]) S dJ6_newCapacity_12 rfl (by decide) rfl ?_
  refine ct_iload_n (k := 0) S dJ6_newCapacity_13 rfl rfl ?_
  refine ct_iload_n (k := 1) S dJ6_newCapacity_14 rfl rfl ?_
  refine ct_isub S dJ6_newCapacity_15 ?_
  refine ct_leti (fun x5 => ?_)
  refine ct_istore (L' := [(4, cz_i x5), (3, cz_i x4), (2, cz_i x2), (0, cz_r l0), (1, cz_i l1)]) S dJ6_newCapacity_16 (by decide) rfl ?_
  refine ct_iload_n (k := 2) S dJ6_newCapacity_18 rfl rfl ?_
  refine ct_iload (k := 0) S dJ6_newCapacity_19 rfl ?_
  refine ct_iload_n (k := 2) S dJ6_newCapacity_21 rfl rfl ?_
  refine ct_iconst (v := 2) S dJ6_newCapacity_22 kI_2 ?_
  refine ct_aload_n (k := 3) S dJ6_newCapacity_23 rfl rfl ?_
  refine ct_getI S fw_J6_22 dJ6_newCapacity_24 (fun x6 => ?_)
  refine ct_ishl S dJ6_newCapacity_27 ?_
  refine ct_iadd S dJ6_newCapacity_28 ?_
  refine ct_cI (st := []) (cg_static (av := [cz_i x2, cz_i x5, cz_i (x2 + ((2 : Int32) <<< (x6 &&& 31)))]) S (fun _ e => mt_J10_newLength e) md_J10_newLength (Or.inl q578) q579 (by decide) (Nat.le_of_ble_eq_true rfl) rfl dJ6_newCapacity_29) (fun x8 h7 => ?_)
  refine ct_istore (L' := [(5, cz_i x8), (4, cz_i x5), (3, cz_i x4), (2, cz_i x2), (0, cz_r l0), (1, cz_i l1)]) S dJ6_newCapacity_32 (by decide) rfl ?_
  refine ct_iload (k := 0) S dJ6_newCapacity_34 rfl ?_
  refine ct_ldc S q588 dJ6_newCapacity_36 ?_
  refine ct_icmp_ne (tgt := 51) S dJ6_newCapacity_38 (by decide) ?_ ?_
  · refine ct_iload (k := 0) S dJ6_newCapacity_51 rfl ?_
    refine ct_aload_n (k := 4) S dJ6_newCapacity_53 rfl rfl ?_
    refine ct_getI S fw_J6_22 dJ6_newCapacity_54 (fun x9 => ?_)
    refine ct_ishr S dJ6_newCapacity_57 ?_
    exact ct_iret S rfl dJ6_newCapacity_58
  · exact ct_none
theorem mt_J6_newCapacity {l : Launch} {D : cz_D} {l0 : Option Nat} {l1 : Int32} {h : cz_H} {oh : cz_O × cz_H} (hz : fn_J6_newCapacity l0 l1 h = some oh) : cz_M l D yJ6_newCapacity (ws_ yJ6_newCapacity cJ6_newCapacity 6 ((Option.some Jvm.ClassFile.FieldType.int))) 4 [cz_r l0, cz_i l1] h oh := cz_met (plainFor_of_name (by decide)) (Nat.le_of_ble_eq_true rfl) hz (fun K hl S => wk_J6_newCapacity S)
/-! java/lang/AbstractStringBuilder.ensureCapacityInternal(I)V -/
def dkwJ6_ensureCapacityInternal_1 : List UInt8 := [182, 0, 104, 42, 180, 0, 22, 120, 184, 0, 108, 181, 0, 15, 177]
abbrev dktJ6_ensureCapacityInternal_1 : List UInt8 := dkwJ6_ensureCapacityInternal_1 ++ []
def dkwJ6_ensureCapacityInternal_0 : List UInt8 := [42, 180, 0, 15, 190, 42, 180, 0, 22, 122, 61, 27, 28, 100, 158, 0, 24, 42, 42, 180, 0, 15, 42, 27]
abbrev dktJ6_ensureCapacityInternal_0 : List UInt8 := dkwJ6_ensureCapacityInternal_0 ++ dktJ6_ensureCapacityInternal_1
theorem dksJ6_ensureCapacityInternal_0 : cJ6_ensureCapacityInternal.data.toList.drop 0 = dktJ6_ensureCapacityInternal_0 := by decide +kernel
theorem dksJ6_ensureCapacityInternal_1 : cJ6_ensureCapacityInternal.data.toList.drop 24 = dktJ6_ensureCapacityInternal_1 := dk_seg dksJ6_ensureCapacityInternal_0 24 rfl rfl
theorem dJ6_ensureCapacityInternal_0 : decode cJ6_ensureCapacityInternal 0 = .ok (.aload_n 0, 1) := dk_42 (dk_at dksJ6_ensureCapacityInternal_0 0 rfl rfl)
theorem dJ6_ensureCapacityInternal_1 : decode cJ6_ensureCapacityInternal 1 = .ok (.getfield 15, 3) := dk_180 0 15 (dk_at dksJ6_ensureCapacityInternal_0 1 rfl rfl)
theorem dJ6_ensureCapacityInternal_4 : decode cJ6_ensureCapacityInternal 4 = .ok (.arraylength, 1) := dk_190 (dk_at dksJ6_ensureCapacityInternal_0 4 rfl rfl)
theorem dJ6_ensureCapacityInternal_5 : decode cJ6_ensureCapacityInternal 5 = .ok (.aload_n 0, 1) := dk_42 (dk_at dksJ6_ensureCapacityInternal_0 5 rfl rfl)
theorem dJ6_ensureCapacityInternal_6 : decode cJ6_ensureCapacityInternal 6 = .ok (.getfield 22, 3) := dk_180 0 22 (dk_at dksJ6_ensureCapacityInternal_0 6 rfl rfl)
theorem dJ6_ensureCapacityInternal_9 : decode cJ6_ensureCapacityInternal 9 = .ok (.ishr, 1) := dk_122 (dk_at dksJ6_ensureCapacityInternal_0 9 rfl rfl)
theorem dJ6_ensureCapacityInternal_10 : decode cJ6_ensureCapacityInternal 10 = .ok (.istore_n 2, 1) := dk_61 (dk_at dksJ6_ensureCapacityInternal_0 10 rfl rfl)
theorem dJ6_ensureCapacityInternal_11 : decode cJ6_ensureCapacityInternal 11 = .ok (.iload_n 1, 1) := dk_27 (dk_at dksJ6_ensureCapacityInternal_0 11 rfl rfl)
theorem dJ6_ensureCapacityInternal_12 : decode cJ6_ensureCapacityInternal 12 = .ok (.iload_n 2, 1) := dk_28 (dk_at dksJ6_ensureCapacityInternal_0 12 rfl rfl)
theorem dJ6_ensureCapacityInternal_13 : decode cJ6_ensureCapacityInternal 13 = .ok (.isub, 1) := dk_100 (dk_at dksJ6_ensureCapacityInternal_0 13 rfl rfl)
theorem dJ6_ensureCapacityInternal_14 : decode cJ6_ensureCapacityInternal 14 = .ok (.ifCond .le 24, 3) := dk_158 0 24 (dk_at dksJ6_ensureCapacityInternal_0 14 rfl rfl)
theorem dJ6_ensureCapacityInternal_17 : decode cJ6_ensureCapacityInternal 17 = .ok (.aload_n 0, 1) := dk_42 (dk_at dksJ6_ensureCapacityInternal_0 17 rfl rfl)
theorem dJ6_ensureCapacityInternal_18 : decode cJ6_ensureCapacityInternal 18 = .ok (.aload_n 0, 1) := dk_42 (dk_at dksJ6_ensureCapacityInternal_0 18 rfl rfl)
theorem dJ6_ensureCapacityInternal_19 : decode cJ6_ensureCapacityInternal 19 = .ok (.getfield 15, 3) := dk_180 0 15 (dk_at dksJ6_ensureCapacityInternal_0 19 rfl rfl)
theorem dJ6_ensureCapacityInternal_22 : decode cJ6_ensureCapacityInternal 22 = .ok (.aload_n 0, 1) := dk_42 (dk_at dksJ6_ensureCapacityInternal_0 22 rfl rfl)
theorem dJ6_ensureCapacityInternal_23 : decode cJ6_ensureCapacityInternal 23 = .ok (.iload_n 1, 1) := dk_27 (dk_at dksJ6_ensureCapacityInternal_0 23 rfl rfl)
theorem dJ6_ensureCapacityInternal_24 : decode cJ6_ensureCapacityInternal 24 = .ok (.invokevirtual 104, 3) := dk_182 0 104 (dk_at dksJ6_ensureCapacityInternal_1 0 rfl rfl)
theorem dJ6_ensureCapacityInternal_27 : decode cJ6_ensureCapacityInternal 27 = .ok (.aload_n 0, 1) := dk_42 (dk_at dksJ6_ensureCapacityInternal_1 3 rfl rfl)
theorem dJ6_ensureCapacityInternal_28 : decode cJ6_ensureCapacityInternal 28 = .ok (.getfield 22, 3) := dk_180 0 22 (dk_at dksJ6_ensureCapacityInternal_1 4 rfl rfl)
theorem dJ6_ensureCapacityInternal_31 : decode cJ6_ensureCapacityInternal 31 = .ok (.ishl, 1) := dk_120 (dk_at dksJ6_ensureCapacityInternal_1 7 rfl rfl)
theorem dJ6_ensureCapacityInternal_32 : decode cJ6_ensureCapacityInternal 32 = .ok (.invokestatic 108, 3) := dk_184 0 108 (dk_at dksJ6_ensureCapacityInternal_1 8 rfl rfl)
theorem dJ6_ensureCapacityInternal_35 : decode cJ6_ensureCapacityInternal 35 = .ok (.putfield 15, 3) := dk_181 0 15 (dk_at dksJ6_ensureCapacityInternal_1 11 rfl rfl)
theorem dJ6_ensureCapacityInternal_38 : decode cJ6_ensureCapacityInternal 38 = .ok (.return_, 1) := dk_177 (dk_at dksJ6_ensureCapacityInternal_1 14 rfl rfl)
theorem md_J6_newCapacity : cz_md yJ6_newCapacity 6 (ws_ yJ6_newCapacity cJ6_newCapacity 6 ((Option.some Jvm.ClassFile.FieldType.int))) 1 := ⟨cz_ws_code q577, q126, ⟨by decide, by decide, by decide +kernel⟩, by decide⟩
theorem md_J3_copyOf : cz_md yJ3_copyOf 3 (ws_ yJ3_copyOf cJ3_copyOf 3 ((Option.some (Jvm.ClassFile.FieldType.array Jvm.ClassFile.FieldType.byte)))) 2 := ⟨cz_ws_code q591, q119, ⟨by decide, by decide, by decide +kernel⟩, by decide⟩
theorem fp_J6_m_7_0 {nm : String} : cz_FP "java/lang/AbstractStringBuilder" nm [(7, 0)] := List.forall_mem_cons.mpr ⟨⟨RJ7, TJ7, 4, rfl, Or.inl rfl⟩, fun _ h => absurd h List.not_mem_nil⟩
set_option maxHeartbeats 4000000 in
set_option maxRecDepth 100000 in
noncomputable def fn_J6_ensureCapacityInternal (l0 : Option Nat) (l1 : Int32) (h : cz_H) : cz_Z := cz_getR h l0 [(7, 0)] (fun r1 => cz_alen h r1 (fun x2 => cz_getI h l0 [(7, 1)] (fun x3 => cz_leti (x2 >>> (x3 &&& 31)) (fun x4 => (if (l1 - x4) ≤ 0 then some (.inl none, h) else cz_getR h l0 [(7, 0)] (fun r5 => cz_rc h l0 [7] (cz_cI (fn_J6_newCapacity l0 l1 h) (fun x13 h12 => cz_getI h12 l0 [(7, 1)] (fun x14 => cz_cR (fn_J3_copyOf r5 (x13 <<< (x14 &&& 31)) h12) (fun r16 h15 => cz_put h15 l0 [(7, 0)] (cz_r r16) (fun h17 => some (.inl none, h17))))))))))))
set_option maxHeartbeats 4000000 in
set_option maxRecDepth 100000 in
theorem wk_J6_ensureCapacityInternal {K : cz_K} {D : cz_D} {h0 : cz_H} {oh : cz_O × cz_H} {l0 : Option Nat} {l1 : Int32} {h : cz_H} (S : cz_S K D h0 cJ6_ensureCapacityInternal 3 "java/lang/AbstractStringBuilder" ((Option.none : Option Jvm.ClassFile.FieldType)) "ensureCapacityInternal" ([])) : cz_T K D 5 h0 oh 3 (fn_J6_ensureCapacityInternal l0 l1 h) h 0 [(0, cz_r l0), (1, cz_i l1)] [] := by
  unfold fn_J6_ensureCapacityInternal
  refine ct_aload_n (k := 0) S dJ6_ensureCapacityInternal_0 rfl rfl ?_
  refine ct_getR S fw_J6_15 dJ6_ensureCapacityInternal_1 (fun r1 => ?_)
  refine ct_alen S dJ6_ensureCapacityInternal_4 (fun x2 => ?_)
  refine ct_aload_n (k := 0) S dJ6_ensureCapacityInternal_5 rfl rfl ?_
  refine ct_getI S fw_J6_22 dJ6_ensureCapacityInternal_6 (fun x3 => ?_)
  refine ct_ishr S dJ6_ensureCapacityInternal_9 ?_
  refine ct_leti (fun x4 => ?_)
  refine ct_istore_n (L' := [(2, cz_i x4), (0, cz_r l0), (1, cz_i l1)]) S dJ6_ensureCapacityInternal_10 rfl (by decide) rfl ?_
  refine ct_iload_n (k := 2) S dJ6_ensureCapacityInternal_11 rfl rfl ?_
  refine ct_iload_n (k := 0) S dJ6_ensureCapacityInternal_12 rfl rfl ?_
  refine ct_isub S dJ6_ensureCapacityInternal_13 ?_
  refine ct_if_le (tgt := 38) S dJ6_ensureCapacityInternal_14 (by decide) ?_ ?_
  · exact ct_vret S rfl dJ6_ensureCapacityInternal_38
  · refine ct_aload_n (k := 1) S dJ6_ensureCapacityInternal_17 rfl rfl ?_
    refine ct_aload_n (k := 1) S dJ6_ensureCapacityInternal_18 rfl rfl ?_
    refine ct_getR S fw_J6_15 dJ6_ensureCapacityInternal_19 (fun r5 => ?_)
    refine ct_aload_n (k := 1) S dJ6_ensureCapacityInternal_22 rfl rfl ?_
    refine ct_iload_n (k := 2) S dJ6_ensureCapacityInternal_23 rfl rfl ?_
    refine ct_rc (fun b6 ci7 V8 hb9 hc10 hi11 => ?_)
    refine ct_cI (st := [cz_r r5, cz_r l0]) (cg_private (y0 := ⟨"java/lang/AbstractStringBuilder", "isLatin1", "()Z"⟩) (C0 := "java/lang/StringBuilder") (av := [cz_i l1]) S hb9 hc10 hi11 (fun _ e => mt_J6_newCapacity e) md_J6_newCapacity q574 q576 q575 q608 rfl (by decide) (Nat.le_of_ble_eq_true rfl) rfl dJ6_ensureCapacityInternal_24) (fun x13 h12 => ?_)
    refine ct_aload_n (k := 1) S dJ6_ensureCapacityInternal_27 rfl rfl ?_
    refine ct_getI S fw_J6_22 dJ6_ensureCapacityInternal_28 (fun x14 => ?_)
    refine ct_ishl S dJ6_ensureCapacityInternal_31 ?_
    refine ct_cR (st := [cz_r l0]) (cg_static (av := [cz_r r5, cz_i (x13 <<< (x14 &&& 31))]) S (fun _ e => mt_J3_copyOf e) md_J3_copyOf (Or.inl q589) q590 (by decide) (Nat.le_of_ble_eq_true rfl) rfl dJ6_ensureCapacityInternal_32) (fun r16 h15 => ?_)
    refine ct_put S fw_J6_15 fp_J6_m_7_0 (cz_fits_a pd__B) dJ6_ensureCapacityInternal_35 (fun h17 => ?_)
    exact ct_vret S rfl dJ6_ensureCapacityInternal_38
theorem mt_J6_ensureCapacityInternal {l : Launch} {D : cz_D} {l0 : Option Nat} {l1 : Int32} {h : cz_H} {oh : cz_O × cz_H} (hz : fn_J6_ensureCapacityInternal l0 l1 h = some oh) : cz_M l D yJ6_ensureCapacityInternal (ws_ yJ6_ensureCapacityInternal cJ6_ensureCapacityInternal 3 ((Option.none : Option Jvm.ClassFile.FieldType))) 5 [cz_r l0, cz_i l1] h oh := cz_met (plainFor_of_name (by decide)) (Nat.le_of_ble_eq_true rfl) hz (fun K hl S => wk_J6_ensureCapacityInternal S)
/-! java/lang/AbstractStringBuilder.isLatin1()Z -/
def dkwJ6_isLatin1_0 : List UInt8 := [178, 0, 18, 153, 0, 14, 42, 180, 0, 22, 154, 0, 7, 4, 167, 0, 4, 3, 172]
abbrev dktJ6_isLatin1_0 : List UInt8 := dkwJ6_isLatin1_0 ++ []
theorem dksJ6_isLatin1_0 : cJ6_isLatin1.data.toList.drop 0 = dktJ6_isLatin1_0 := by decide +kernel
theorem dJ6_isLatin1_0 : decode cJ6_isLatin1 0 = .ok (.getstatic 18, 3) := dk_178 0 18 (dk_at dksJ6_isLatin1_0 0 rfl rfl)
theorem dJ6_isLatin1_3 : decode cJ6_isLatin1 3 = .ok (.ifCond .eq 14, 3) := dk_153 0 14 (dk_at dksJ6_isLatin1_0 3 rfl rfl)
theorem dJ6_isLatin1_6 : decode cJ6_isLatin1 6 = .ok (.aload_n 0, 1) := dk_42 (dk_at dksJ6_isLatin1_0 6 rfl rfl)
theorem dJ6_isLatin1_7 : decode cJ6_isLatin1 7 = .ok (.getfield 22, 3) := dk_180 0 22 (dk_at dksJ6_isLatin1_0 7 rfl rfl)
theorem dJ6_isLatin1_10 : decode cJ6_isLatin1 10 = .ok (.ifCond .ne 7, 3) := dk_154 0 7 (dk_at dksJ6_isLatin1_0 10 rfl rfl)
theorem dJ6_isLatin1_13 : decode cJ6_isLatin1 13 = .ok (.iconst 1, 1) := dk_4 (dk_at dksJ6_isLatin1_0 13 rfl rfl)
theorem dJ6_isLatin1_14 : decode cJ6_isLatin1 14 = .ok (.goto 4, 3) := dk_167 0 4 (dk_at dksJ6_isLatin1_0 14 rfl rfl)
theorem dJ6_isLatin1_17 : decode cJ6_isLatin1 17 = .ok (.iconst 0, 1) := dk_3 (dk_at dksJ6_isLatin1_0 17 rfl rfl)
theorem dJ6_isLatin1_18 : decode cJ6_isLatin1 18 = .ok (.ireturn, 1) := dk_172 (dk_at dksJ6_isLatin1_0 18 rfl rfl)
set_option maxHeartbeats 4000000 in
set_option maxRecDepth 100000 in
noncomputable def fn_J6_isLatin1 (l0 : Option Nat) (h : cz_H) : cz_Z := (if (1 : Int32) = 0 then some (.inl (some (cz_i 0)), h) else cz_getI h l0 [(7, 1)] (fun x1 => (if x1 = 0 then some (.inl (some (cz_i 1)), h) else some (.inl (some (cz_i 0)), h))))
set_option maxHeartbeats 4000000 in
set_option maxRecDepth 100000 in
theorem wk_J6_isLatin1 {K : cz_K} {D : cz_D} {h0 : cz_H} {oh : cz_O × cz_H} {l0 : Option Nat} {h : cz_H} (S : cz_S K D h0 cJ6_isLatin1 1 "java/lang/AbstractStringBuilder" ((Option.some Jvm.ClassFile.FieldType.boolean)) "isLatin1" ([])) : cz_T K D 2 h0 oh 1 (fn_J6_isLatin1 l0 h) h 0 [(0, cz_r l0)] [] := by
  unfold fn_J6_isLatin1
  refine ct_gets (i := 0) S rfl q541 dJ6_isLatin1_0 ?_
  refine ct_if_eq (tgt := 17) S dJ6_isLatin1_3 (by decide) ?_ ?_
  · refine ct_iconst (v := 0) S dJ6_isLatin1_17 kI_0 ?_
    exact ct_zr (ty := .boolean) S rfl rfl dJ6_isLatin1_18
  · refine ct_aload_n (k := 0) S dJ6_isLatin1_6 rfl rfl ?_
    refine ct_getI S fw_J6_22 dJ6_isLatin1_7 (fun x1 => ?_)
    refine ct_if_ne (tgt := 17) S dJ6_isLatin1_10 (by decide) ?_ ?_
    · refine ct_iconst (v := 0) S dJ6_isLatin1_17 kI_0 ?_
      exact ct_zr (ty := .boolean) S rfl rfl dJ6_isLatin1_18
    · refine ct_iconst (v := 1) S dJ6_isLatin1_13 kI_1 ?_
      refine ct_goto (tgt := 18) S dJ6_isLatin1_14 (by decide) ?_
      exact ct_zr (ty := .boolean) S rfl rfl dJ6_isLatin1_18
theorem mt_J6_isLatin1 {l : Launch} {D : cz_D} {l0 : Option Nat} {h : cz_H} {oh : cz_O × cz_H} (hz : fn_J6_isLatin1 l0 h = some oh) : cz_M l D yJ6_isLatin1 (ws_ yJ6_isLatin1 cJ6_isLatin1 1 ((Option.some Jvm.ClassFile.FieldType.boolean))) 2 [cz_r l0] h oh := cz_met (plainFor_of_name (by decide)) (Nat.le_of_ble_eq_true rfl) hz (fun K hl S => wk_J6_isLatin1 S)
/-! java/lang/AbstractStringBuilder.append(C)Ljava/lang/AbstractStringBuilder; -/
def dkwJ6_append_3 : List UInt8 := [181, 0, 79, 27, 184, 0, 197, 42, 176]
abbrev dktJ6_append_3 : List UInt8 := dkwJ6_append_3 ++ []
def dkwJ6_append_2 : List UInt8 := [182, 0, 83, 153, 0, 7, 42, 182, 0, 195, 42, 180, 0, 15, 42, 89, 180, 0, 79, 90, 4, 96]
abbrev dktJ6_append_2 : List UInt8 := dkwJ6_append_2 ++ dktJ6_append_3
def dkwJ6_append_1 : List UInt8 := [42, 180, 0, 15, 42, 89, 180, 0, 79, 90, 4, 96, 181, 0, 79, 27, 145, 84, 167, 0, 33, 42]
abbrev dktJ6_append_1 : List UInt8 := dkwJ6_append_1 ++ dktJ6_append_2
def dkwJ6_append_0 : List UInt8 := [42, 42, 180, 0, 79, 4, 96, 182, 0, 100, 42, 182, 0, 83, 153, 0, 31, 27, 184, 0, 191, 153, 0, 24]
abbrev dktJ6_append_0 : List UInt8 := dkwJ6_append_0 ++ dktJ6_append_1
theorem dksJ6_append_0 : cJ6_append.data.toList.drop 0 = dktJ6_append_0 := by decide +kernel
theorem dksJ6_append_1 : cJ6_append.data.toList.drop 24 = dktJ6_append_1 := dk_seg dksJ6_append_0 24 rfl rfl
theorem dksJ6_append_2 : cJ6_append.data.toList.drop 46 = dktJ6_append_2 := dk_seg dksJ6_append_1 22 rfl rfl
theorem dksJ6_append_3 : cJ6_append.data.toList.drop 68 = dktJ6_append_3 := dk_seg dksJ6_append_2 22 rfl rfl
theorem dJ6_append_0 : decode cJ6_append 0 = .ok (.aload_n 0, 1) := dk_42 (dk_at dksJ6_append_0 0 rfl rfl)
theorem dJ6_append_1 : decode cJ6_append 1 = .ok (.aload_n 0, 1) := dk_42 (dk_at dksJ6_append_0 1 rfl rfl)
theorem dJ6_append_2 : decode cJ6_append 2 = .ok (.getfield 79, 3) := dk_180 0 79 (dk_at dksJ6_append_0 2 rfl rfl)
theorem dJ6_append_5 : decode cJ6_append 5 = .ok (.iconst 1, 1) := dk_4 (dk_at dksJ6_append_0 5 rfl rfl)
theorem dJ6_append_6 : decode cJ6_append 6 = .ok (.iadd, 1) := dk_96 (dk_at dksJ6_append_0 6 rfl rfl)
theorem dJ6_append_7 : decode cJ6_append 7 = .ok (.invokevirtual 100, 3) := dk_182 0 100 (dk_at dksJ6_append_0 7 rfl rfl)
theorem dJ6_append_10 : decode cJ6_append 10 = .ok (.aload_n 0, 1) := dk_42 (dk_at dksJ6_append_0 10 rfl rfl)
theorem dJ6_append_11 : decode cJ6_append 11 = .ok (.invokevirtual 83, 3) := dk_182 0 83 (dk_at dksJ6_append_0 11 rfl rfl)
theorem dJ6_append_14 : decode cJ6_append 14 = .ok (.ifCond .eq 31, 3) := dk_153 0 31 (dk_at dksJ6_append_0 14 rfl rfl)
theorem dJ6_append_17 : decode cJ6_append 17 = .ok (.iload_n 1, 1) := dk_27 (dk_at dksJ6_append_0 17 rfl rfl)
theorem dJ6_append_18 : decode cJ6_append 18 = .ok (.invokestatic 191, 3) := dk_184 0 191 (dk_at dksJ6_append_0 18 rfl rfl)
theorem dJ6_append_21 : decode cJ6_append 21 = .ok (.ifCond .eq 24, 3) := dk_153 0 24 (dk_at dksJ6_append_0 21 rfl rfl)
theorem dJ6_append_24 : decode cJ6_append 24 = .ok (.aload_n 0, 1) := dk_42 (dk_at dksJ6_append_1 0 rfl rfl)
theorem dJ6_append_25 : decode cJ6_append 25 = .ok (.getfield 15, 3) := dk_180 0 15 (dk_at dksJ6_append_1 1 rfl rfl)
theorem dJ6_append_28 : decode cJ6_append 28 = .ok (.aload_n 0, 1) := dk_42 (dk_at dksJ6_append_1 4 rfl rfl)
theorem dJ6_append_29 : decode cJ6_append 29 = .ok (.dup, 1) := dk_89 (dk_at dksJ6_append_1 5 rfl rfl)
theorem dJ6_append_30 : decode cJ6_append 30 = .ok (.getfield 79, 3) := dk_180 0 79 (dk_at dksJ6_append_1 6 rfl rfl)
theorem dJ6_append_33 : decode cJ6_append 33 = .ok (.dup_x1, 1) := dk_90 (dk_at dksJ6_append_1 9 rfl rfl)
theorem dJ6_append_34 : decode cJ6_append 34 = .ok (.iconst 1, 1) := dk_4 (dk_at dksJ6_append_1 10 rfl rfl)
theorem dJ6_append_35 : decode cJ6_append 35 = .ok (.iadd, 1) := dk_96 (dk_at dksJ6_append_1 11 rfl rfl)
theorem dJ6_append_36 : decode cJ6_append 36 = .ok (.putfield 79, 3) := dk_181 0 79 (dk_at dksJ6_append_1 12 rfl rfl)
theorem dJ6_append_39 : decode cJ6_append 39 = .ok (.iload_n 1, 1) := dk_27 (dk_at dksJ6_append_1 15 rfl rfl)
theorem dJ6_append_40 : decode cJ6_append 40 = .ok (.i2b, 1) := dk_145 (dk_at dksJ6_append_1 16 rfl rfl)
theorem dJ6_append_41 : decode cJ6_append 41 = .ok (.bastore, 1) := dk_84 (dk_at dksJ6_append_1 17 rfl rfl)
theorem dJ6_append_42 : decode cJ6_append 42 = .ok (.goto 33, 3) := dk_167 0 33 (dk_at dksJ6_append_1 18 rfl rfl)
theorem dJ6_append_45 : decode cJ6_append 45 = .ok (.aload_n 0, 1) := dk_42 (dk_at dksJ6_append_1 21 rfl rfl)
theorem dJ6_append_46 : decode cJ6_append 46 = .ok (.invokevirtual 83, 3) := dk_182 0 83 (dk_at dksJ6_append_2 0 rfl rfl)
theorem dJ6_append_49 : decode cJ6_append 49 = .ok (.ifCond .eq 7, 3) := dk_153 0 7 (dk_at dksJ6_append_2 3 rfl rfl)
theorem dJ6_append_52 : decode cJ6_append 52 = .ok (.aload_n 0, 1) := dk_42 (dk_at dksJ6_append_2 6 rfl rfl)
theorem dJ6_append_53 : decode cJ6_append 53 = .ok (.invokevirtual 195, 3) := dk_182 0 195 (dk_at dksJ6_append_2 7 rfl rfl)
theorem dJ6_append_56 : decode cJ6_append 56 = .ok (.aload_n 0, 1) := dk_42 (dk_at dksJ6_append_2 10 rfl rfl)
theorem dJ6_append_57 : decode cJ6_append 57 = .ok (.getfield 15, 3) := dk_180 0 15 (dk_at dksJ6_append_2 11 rfl rfl)
theorem dJ6_append_60 : decode cJ6_append 60 = .ok (.aload_n 0, 1) := dk_42 (dk_at dksJ6_append_2 14 rfl rfl)
theorem dJ6_append_61 : decode cJ6_append 61 = .ok (.dup, 1) := dk_89 (dk_at dksJ6_append_2 15 rfl rfl)
theorem dJ6_append_62 : decode cJ6_append 62 = .ok (.getfield 79, 3) := dk_180 0 79 (dk_at dksJ6_append_2 16 rfl rfl)
theorem dJ6_append_65 : decode cJ6_append 65 = .ok (.dup_x1, 1) := dk_90 (dk_at dksJ6_append_2 19 rfl rfl)
theorem dJ6_append_66 : decode cJ6_append 66 = .ok (.iconst 1, 1) := dk_4 (dk_at dksJ6_append_2 20 rfl rfl)
theorem dJ6_append_67 : decode cJ6_append 67 = .ok (.iadd, 1) := dk_96 (dk_at dksJ6_append_2 21 rfl rfl)
theorem dJ6_append_68 : decode cJ6_append 68 = .ok (.putfield 79, 3) := dk_181 0 79 (dk_at dksJ6_append_3 0 rfl rfl)
theorem dJ6_append_71 : decode cJ6_append 71 = .ok (.iload_n 1, 1) := dk_27 (dk_at dksJ6_append_3 3 rfl rfl)
theorem dJ6_append_72 : decode cJ6_append 72 = .ok (.invokestatic 197, 3) := dk_184 0 197 (dk_at dksJ6_append_3 4 rfl rfl)
theorem dJ6_append_75 : decode cJ6_append 75 = .ok (.aload_n 0, 1) := dk_42 (dk_at dksJ6_append_3 7 rfl rfl)
theorem dJ6_append_76 : decode cJ6_append 76 = .ok (.areturn, 1) := dk_176 (dk_at dksJ6_append_3 8 rfl rfl)
theorem fw_J6_79 : cz_FW "java/lang/AbstractStringBuilder" 79 [(7, 3)] "I" := ⟨"java/lang/AbstractStringBuilder", "count", Or.inl q553, List.forall_mem_cons.mpr ⟨⟨RJ7, TJ7, 4, rfl, by decide, rfl, rfl, Or.inl rfl⟩, fun _ h => absurd h List.not_mem_nil⟩, by decide⟩
theorem md_J6_ensureCapacityInternal : cz_md yJ6_ensureCapacityInternal 3 (ws_ yJ6_ensureCapacityInternal cJ6_ensureCapacityInternal 3 ((Option.none : Option Jvm.ClassFile.FieldType))) 1 := ⟨cz_ws_code q573, q126, ⟨by decide, by decide, by decide +kernel⟩, by decide⟩
theorem se_java_lang_AbstractStringBuilder_isLatin1___Z_java_lang_AbstractStringBuilder : ∀ c ∈ ([7] : List Nat), ∃ q : vw_C, cz_cl[c]? = some q ∧ Cond.selects q.1 (⟨"java/lang/AbstractStringBuilder", "isLatin1", "()Z"⟩ : MethodName) (⟨"java/lang/AbstractStringBuilder", "isLatin1", "()Z"⟩ : MethodName) ∈ lw_all := List.forall_mem_cons.mpr ⟨⟨_, cz_cl7, q608⟩, fun _ h => absurd h List.not_mem_nil⟩
theorem md_J6_isLatin1 : cz_md yJ6_isLatin1 1 (ws_ yJ6_isLatin1 cJ6_isLatin1 1 ((Option.some Jvm.ClassFile.FieldType.boolean))) 0 := ⟨cz_ws_code q609, q126, ⟨by decide, by decide, by decide +kernel⟩, by decide⟩
theorem fp_J6_m_7_3 {nm : String} : cz_FP "java/lang/AbstractStringBuilder" nm [(7, 3)] := List.forall_mem_cons.mpr ⟨⟨RJ7, TJ7, 4, rfl, Or.inl rfl⟩, fun _ h => absurd h List.not_mem_nil⟩
theorem md_J12_canEncode : cz_md yJ12_canEncode 1 (ws_ yJ12_canEncode cJ12_canEncode 1 ((Option.some Jvm.ClassFile.FieldType.boolean))) 1 := ⟨cz_ws_code q612, q133, ⟨by decide, by decide, by decide +kernel⟩, by decide⟩
set_option maxHeartbeats 4000000 in
set_option maxRecDepth 100000 in
noncomputable def fn_J6_append (l0 : Option Nat) (l1 : Int32) (h : cz_H) : cz_Z := cz_getI h l0 [(7, 3)] (fun x1 => cz_rc h l0 [7] (cz_cV (fn_J6_ensureCapacityInternal l0 (x1 + 1) h) (fun h8 => cz_rc h8 l0 [7] (cz_cI (fn_J6_isLatin1 l0 h8) (fun x16 h15 => cz_jn (fun (h17 : cz_H) => cz_rc h17 l0 [7] (cz_cI (fn_J6_isLatin1 l0 h17) (fun x25 h24 => (if x25 = 0 then cz_getR h24 l0 [(7, 0)] (fun r26 => cz_getI h24 l0 [(7, 3)] (fun x27 => cz_put h24 l0 [(7, 3)] (cz_i (x27 + 1)) (fun h28 => none))) else none)))) (fun j29 => (if x16 = 0 then j29 h15 else cz_cI (fn_J12_canEncode l1 h15) (fun x31 h30 => (if x31 = 0 then j29 h30 else cz_getR h30 l0 [(7, 0)] (fun r32 => cz_getI h30 l0 [(7, 3)] (fun x33 => cz_put h30 l0 [(7, 3)] (cz_i (x33 + 1)) (fun h34 => cz_bast h34 r32 x33 ((l1).toInt8.toInt32) (fun h35 => some (.inl (some (cz_r l0)), h35))))))))))))))
set_option maxHeartbeats 4000000 in
set_option maxRecDepth 100000 in
theorem wk_J6_append {K : cz_K} {D : cz_D} {h0 : cz_H} {oh : cz_O × cz_H} {l0 : Option Nat} {l1 : Int32} {h : cz_H} (S : cz_S K D h0 cJ6_append 2 "java/lang/AbstractStringBuilder" ((Option.some (Jvm.ClassFile.FieldType.object "java/lang/AbstractStringBuilder"))) "append" ([])) : cz_T K D 6 h0 oh 2 (fn_J6_append l0 l1 h) h 0 [(0, cz_r l0), (1, cz_i l1)] [] := by
  unfold fn_J6_append
  refine ct_aload_n (k := 0) S dJ6_append_0 rfl rfl ?_
  refine ct_aload_n (k := 0) S dJ6_append_1 rfl rfl ?_
  refine ct_getI S fw_J6_79 dJ6_append_2 (fun x1 => ?_)
  refine ct_iconst (v := 1) S dJ6_append_5 kI_1 ?_
  refine ct_iadd S dJ6_append_6 ?_
  refine ct_rc (fun b2 ci3 V4 hb5 hc6 hi7 => ?_)
  refine ct_cV (st := []) (cg_private (y0 := ⟨"java/lang/AbstractStringBuilder", "isLatin1", "()Z"⟩) (C0 := "java/lang/StringBuilder") (av := [cz_i (x1 + 1)]) S hb5 hc6 hi7 (fun _ e => mt_J6_ensureCapacityInternal e) md_J6_ensureCapacityInternal q570 q572 q571 q608 rfl (by decide) (Nat.le_of_ble_eq_true rfl) rfl dJ6_append_7) (fun h8 => ?_)
  refine ct_aload_n (k := 0) S dJ6_append_10 rfl rfl ?_
  refine ct_rc (fun b9 ci10 V11 hb12 hc13 hi14 => ?_)
  refine ct_cI (st := []) (cg_virtual (av := []) S hb12 hc13 hi14 (fun _ e => mt_J6_isLatin1 e) md_J6_isLatin1 q605 q606 se_java_lang_AbstractStringBuilder_isLatin1___Z_java_lang_AbstractStringBuilder (by decide) (Nat.le_of_ble_eq_true rfl) rfl dJ6_append_11) (fun x16 h15 => ?_)
  refine ct_jnP (fun j29 => ∀ (h17 : cz_H), cz_T K D 6 h0 oh 2 (j29 h17) h17 45 [(0, cz_r l0), (1, cz_i l1)] []) (fun h17 => ?_) (fun j29 Hj29 => ?_)
  · refine ct_aload_n (k := 0) S dJ6_append_45 rfl rfl ?_
    refine ct_rc (fun b18 ci19 V20 hb21 hc22 hi23 => ?_)
    refine ct_cI (st := []) (cg_virtual (av := []) S hb21 hc22 hi23 (fun _ e => mt_J6_isLatin1 e) md_J6_isLatin1 q605 q606 se_java_lang_AbstractStringBuilder_isLatin1___Z_java_lang_AbstractStringBuilder (by decide) (Nat.le_of_ble_eq_true rfl) rfl dJ6_append_46) (fun x25 h24 => ?_)
    refine ct_if_eq (tgt := 56) S dJ6_append_49 (by decide) ?_ ?_
    · refine ct_aload_n (k := 0) S dJ6_append_56 rfl rfl ?_
      refine ct_getR S fw_J6_15 dJ6_append_57 (fun r26 => ?_)
      refine ct_aload_n (k := 0) S dJ6_append_60 rfl rfl ?_
      refine ct_dup S dJ6_append_61 rfl ?_
      refine ct_getI S fw_J6_79 dJ6_append_62 (fun x27 => ?_)
      refine ct_dup_x1 S dJ6_append_65 rfl rfl ?_
      refine ct_iconst (v := 1) S dJ6_append_66 kI_1 ?_
      refine ct_iadd S dJ6_append_67 ?_
      refine ct_put S fw_J6_79 fp_J6_m_7_3 (cz_fits_i pd_I) dJ6_append_68 (fun h28 => ?_)
      refine ct_iload_n (k := 1) S dJ6_append_71 rfl rfl ?_
      exact ct_none
    · refine ct_aload_n (k := 0) S dJ6_append_52 rfl rfl ?_
      exact ct_none
  · refine ct_if_eq (tgt := 45) S dJ6_append_14 (by decide) ?_ ?_
    · exact Hj29 h15
    · refine ct_iload_n (k := 1) S dJ6_append_17 rfl rfl ?_
      refine ct_cI (st := []) (cg_static (av := [cz_i l1]) S (fun _ e => mt_J12_canEncode e) md_J12_canEncode (Or.inl q610) q611 (by decide) (Nat.le_of_ble_eq_true rfl) rfl dJ6_append_18) (fun x31 h30 => ?_)
      refine ct_if_eq (tgt := 45) S dJ6_append_21 (by decide) ?_ ?_
      · exact Hj29 h30
      · refine ct_aload_n (k := 0) S dJ6_append_24 rfl rfl ?_
        refine ct_getR S fw_J6_15 dJ6_append_25 (fun r32 => ?_)
        refine ct_aload_n (k := 0) S dJ6_append_28 rfl rfl ?_
        refine ct_dup S dJ6_append_29 rfl ?_
        refine ct_getI S fw_J6_79 dJ6_append_30 (fun x33 => ?_)
        refine ct_dup_x1 S dJ6_append_33 rfl rfl ?_
        refine ct_iconst (v := 1) S dJ6_append_34 kI_1 ?_
        refine ct_iadd S dJ6_append_35 ?_
        refine ct_put S fw_J6_79 fp_J6_m_7_3 (cz_fits_i pd_I) dJ6_append_36 (fun h34 => ?_)
        refine ct_iload_n (k := 1) S dJ6_append_39 rfl rfl ?_
        refine ct_i2b S dJ6_append_40 ?_
        refine ct_bast S dJ6_append_41 (fun h35 => ?_)
        refine ct_goto (tgt := 75) S dJ6_append_42 (by decide) ?_
        refine ct_aload_n (k := 0) S dJ6_append_75 rfl rfl ?_
        exact ct_aret S rfl (Or.inl ⟨_, rfl⟩) dJ6_append_76
theorem mt_J6_append {l : Launch} {D : cz_D} {l0 : Option Nat} {l1 : Int32} {h : cz_H} {oh : cz_O × cz_H} (hz : fn_J6_append l0 l1 h = some oh) : cz_M l D yJ6_append (ws_ yJ6_append cJ6_append 2 ((Option.some (Jvm.ClassFile.FieldType.object "java/lang/AbstractStringBuilder")))) 6 [cz_r l0, cz_i l1] h oh := cz_met (plainFor_of_name (by decide)) (Nat.le_of_ble_eq_true rfl) hz (fun K hl S => wk_J6_append S)
/-! java/lang/StringBuilder.append(C)Ljava/lang/StringBuilder; -/
def dkwJ7_append_0 : List UInt8 := [42, 27, 183, 0, 50, 87, 42, 176]
abbrev dktJ7_append_0 : List UInt8 := dkwJ7_append_0 ++ []
theorem dksJ7_append_0 : cJ7_append.data.toList.drop 0 = dktJ7_append_0 := by decide +kernel
theorem dJ7_append_0 : decode cJ7_append 0 = .ok (.aload_n 0, 1) := dk_42 (dk_at dksJ7_append_0 0 rfl rfl)
theorem dJ7_append_1 : decode cJ7_append 1 = .ok (.iload_n 1, 1) := dk_27 (dk_at dksJ7_append_0 1 rfl rfl)
theorem dJ7_append_2 : decode cJ7_append 2 = .ok (.invokespecial 50, 3) := dk_183 0 50 (dk_at dksJ7_append_0 2 rfl rfl)
theorem dJ7_append_5 : decode cJ7_append 5 = .ok (.pop, 1) := dk_87 (dk_at dksJ7_append_0 5 rfl rfl)
theorem dJ7_append_6 : decode cJ7_append 6 = .ok (.aload_n 0, 1) := dk_42 (dk_at dksJ7_append_0 6 rfl rfl)
theorem dJ7_append_7 : decode cJ7_append 7 = .ok (.areturn, 1) := dk_176 (dk_at dksJ7_append_0 7 rfl rfl)
theorem nh_java_lang_AbstractStringBuilder_append__C_Ljava_lang_AbstractStringBuilder_ : cz_nh ⟨"java/lang/AbstractStringBuilder", "append", "(C)Ljava/lang/AbstractStringBuilder;"⟩ 1 := ⟨by decide, by decide, by decide +kernel⟩
set_option maxHeartbeats 4000000 in
set_option maxRecDepth 100000 in
noncomputable def fn_J7_append (l0 : Option Nat) (l1 : Int32) (h : cz_H) : cz_Z := cz_rc h l0 [7] (cz_cR (fn_J6_append l0 l1 h) (fun r8 h7 => some (.inl (some (cz_r l0)), h7)))
set_option maxHeartbeats 4000000 in
set_option maxRecDepth 100000 in
theorem wk_J7_append {K : cz_K} {D : cz_D} {h0 : cz_H} {oh : cz_O × cz_H} {l0 : Option Nat} {l1 : Int32} {h : cz_H} (S : cz_S K D h0 cJ7_append 2 "java/lang/StringBuilder" ((Option.some (Jvm.ClassFile.FieldType.object "java/lang/StringBuilder"))) "append" ([])) : cz_T K D 7 h0 oh 2 (fn_J7_append l0 l1 h) h 0 [(0, cz_r l0), (1, cz_i l1)] [] := by
  unfold fn_J7_append
  refine ct_aload_n (k := 0) S dJ7_append_0 rfl rfl ?_
  refine ct_iload_n (k := 1) S dJ7_append_1 rfl rfl ?_
  refine ct_rc (fun b1 ci2 V3 hb4 hc5 hi6 => ?_)
  refine ct_cR (st := []) (cg_super (av := [cz_i l1]) S hb4 hc5 (fun _ e => mt_J6_append e) q569 q567 q2508 q562 (by decide) q568 q126 nh_java_lang_AbstractStringBuilder_append__C_Ljava_lang_AbstractStringBuilder_ (by decide) (by decide) (Nat.le_of_ble_eq_true rfl) rfl dJ7_append_2) (fun r8 h7 => ?_)
  refine ct_pop S dJ7_append_5 rfl ?_
  refine ct_aload_n (k := 0) S dJ7_append_6 rfl rfl ?_
  exact ct_aret S rfl (Or.inl ⟨_, rfl⟩) dJ7_append_7
theorem mt_J7_append {l : Launch} {D : cz_D} {l0 : Option Nat} {l1 : Int32} {h : cz_H} {oh : cz_O × cz_H} (hz : fn_J7_append l0 l1 h = some oh) : cz_M l D yJ7_append (ws_ yJ7_append cJ7_append 2 ((Option.some (Jvm.ClassFile.FieldType.object "java/lang/StringBuilder")))) 7 [cz_r l0, cz_i l1] h oh := cz_met (plainFor_of_name (by decide)) (Nat.le_of_ble_eq_true rfl) hz (fun K hl S => wk_J7_append S)
