/-! methods of the model, 0 (printed by wip/D-98934w/gen) -/
set_option maxRecDepth 100000
/-! HeldCoatsModel.aheadOf(I)I -/
def dkwX5_aheadOf_1 : List UInt8 := [160, 0, 5, 28, 172, 132, 2, 1, 167, 255, 227, 2, 172]
abbrev dktX5_aheadOf_1 : List UInt8 := dkwX5_aheadOf_1 ++ []
def dkwX5_aheadOf_0 : List UInt8 := [3, 61, 28, 42, 180, 0, 33, 16, 117, 46, 162, 0, 24, 42, 180, 0, 33, 16, 109, 28, 96, 46, 27]
abbrev dktX5_aheadOf_0 : List UInt8 := dkwX5_aheadOf_0 ++ dktX5_aheadOf_1
theorem dksX5_aheadOf_0 : cX5_aheadOf.data.toList.drop 0 = dktX5_aheadOf_0 := by decide +kernel
theorem dksX5_aheadOf_1 : cX5_aheadOf.data.toList.drop 23 = dktX5_aheadOf_1 := dk_seg dksX5_aheadOf_0 23 rfl rfl
theorem dX5_aheadOf_0 : decode cX5_aheadOf 0 = .ok (.iconst 0, 1) := dk_3 (dk_at dksX5_aheadOf_0 0 rfl rfl)
theorem dX5_aheadOf_1 : decode cX5_aheadOf 1 = .ok (.istore_n 2, 1) := dk_61 (dk_at dksX5_aheadOf_0 1 rfl rfl)
theorem dX5_aheadOf_2 : decode cX5_aheadOf 2 = .ok (.iload_n 2, 1) := dk_28 (dk_at dksX5_aheadOf_0 2 rfl rfl)
theorem dX5_aheadOf_3 : decode cX5_aheadOf 3 = .ok (.aload_n 0, 1) := dk_42 (dk_at dksX5_aheadOf_0 3 rfl rfl)
theorem dX5_aheadOf_4 : decode cX5_aheadOf 4 = .ok (.getfield 33, 3) := dk_180 0 33 (dk_at dksX5_aheadOf_0 4 rfl rfl)
theorem dX5_aheadOf_7 : decode cX5_aheadOf 7 = .ok (.bipush 117, 2) := dk_16 117 (dk_at dksX5_aheadOf_0 7 rfl rfl)
theorem dX5_aheadOf_9 : decode cX5_aheadOf 9 = .ok (.iaload, 1) := dk_46 (dk_at dksX5_aheadOf_0 9 rfl rfl)
theorem dX5_aheadOf_10 : decode cX5_aheadOf 10 = .ok (.if_icmp .ge 24, 3) := dk_162 0 24 (dk_at dksX5_aheadOf_0 10 rfl rfl)
theorem dX5_aheadOf_13 : decode cX5_aheadOf 13 = .ok (.aload_n 0, 1) := dk_42 (dk_at dksX5_aheadOf_0 13 rfl rfl)
theorem dX5_aheadOf_14 : decode cX5_aheadOf 14 = .ok (.getfield 33, 3) := dk_180 0 33 (dk_at dksX5_aheadOf_0 14 rfl rfl)
theorem dX5_aheadOf_17 : decode cX5_aheadOf 17 = .ok (.bipush 109, 2) := dk_16 109 (dk_at dksX5_aheadOf_0 17 rfl rfl)
theorem dX5_aheadOf_19 : decode cX5_aheadOf 19 = .ok (.iload_n 2, 1) := dk_28 (dk_at dksX5_aheadOf_0 19 rfl rfl)
theorem dX5_aheadOf_20 : decode cX5_aheadOf 20 = .ok (.iadd, 1) := dk_96 (dk_at dksX5_aheadOf_0 20 rfl rfl)
theorem dX5_aheadOf_21 : decode cX5_aheadOf 21 = .ok (.iaload, 1) := dk_46 (dk_at dksX5_aheadOf_0 21 rfl rfl)
theorem dX5_aheadOf_22 : decode cX5_aheadOf 22 = .ok (.iload_n 1, 1) := dk_27 (dk_at dksX5_aheadOf_0 22 rfl rfl)
theorem dX5_aheadOf_23 : decode cX5_aheadOf 23 = .ok (.if_icmp .ne 5, 3) := dk_160 0 5 (dk_at dksX5_aheadOf_1 0 rfl rfl)
theorem dX5_aheadOf_26 : decode cX5_aheadOf 26 = .ok (.iload_n 2, 1) := dk_28 (dk_at dksX5_aheadOf_1 3 rfl rfl)
theorem dX5_aheadOf_27 : decode cX5_aheadOf 27 = .ok (.ireturn, 1) := dk_172 (dk_at dksX5_aheadOf_1 4 rfl rfl)
theorem dX5_aheadOf_28 : decode cX5_aheadOf 28 = .ok (.iinc 2 1, 3) := dk_132 2 1 (dk_at dksX5_aheadOf_1 5 rfl rfl)
theorem dX5_aheadOf_31 : decode cX5_aheadOf 31 = .ok (.goto (-29), 3) := dk_167 255 227 (dk_at dksX5_aheadOf_1 8 rfl rfl)
theorem dX5_aheadOf_34 : decode cX5_aheadOf 34 = .ok (.iconst (-1), 1) := dk_2 (dk_at dksX5_aheadOf_1 11 rfl rfl)
theorem dX5_aheadOf_35 : decode cX5_aheadOf 35 = .ok (.ireturn, 1) := dk_172 (dk_at dksX5_aheadOf_1 12 rfl rfl)
theorem fw_X5_33 : cz_FW "HeldCoatsModel" 33 [(5, 6)] "[I" := ⟨"HeldCoatsModel", "s", Or.inl q1924, List.forall_mem_cons.mpr ⟨⟨RX5, TX5, 49, rfl, by decide, rfl, rfl, Or.inl rfl⟩, fun _ h => absurd h List.not_mem_nil⟩, by decide⟩
theorem kI_1 : Int32.ofInt (1) = 1 := by decide
theorem kB_109 : (Int8.ofInt (109)).toInt32 = 109 := by decide
theorem kB_117 : (Int8.ofInt (117)).toInt32 = 117 := by decide
theorem kI_m1 : Int32.ofInt (-1) = (-1) := by decide
theorem kI_0 : Int32.ofInt (0) = 0 := by decide
set_option maxHeartbeats 4000000 in
set_option maxRecDepth 100000 in
noncomputable def fn_X5_aheadOf_2 (l0 : Option Nat) (l1 : Int32) (k0 : Int32 → cz_H → cz_Z) (k1 : cz_H → cz_Z) : Nat → Int32 → cz_H → cz_Z
  | 0, _, _ => none
  | n + 1, l2, h => cz_getR h l0 [(5, 6)] (fun r1 => cz_iald h r1 117 (fun x2 => (if x2 ≤ l2 then k1 h else cz_getR h l0 [(5, 6)] (fun r3 => cz_iald h r3 ((109 : Int32) + l2) (fun x4 => (if x4 = l1 then k0 l2 h else cz_leti (l2 + 1) (fun x5 => fn_X5_aheadOf_2 l0 l1 k0 k1 n x5 h)))))))
set_option maxHeartbeats 4000000 in
set_option maxRecDepth 100000 in
theorem wk_X5_aheadOf_2 {K : cz_K} {D : cz_D} {h0 : cz_H} {oh : cz_O × cz_H} {l0 : Option Nat} {l1 : Int32} {k0 : Int32 → cz_H → cz_Z} {k1 : cz_H → cz_Z} (S : cz_S K D h0 cX5_aheadOf 3 "HeldCoatsModel" ((Option.some Jvm.ClassFile.FieldType.int)) "aheadOf" ([])) (hk0 : ∀ (e2 : Int32) (h : cz_H), cz_T K D 2 h0 oh 3 (k0 e2 h) h 26 [(2, cz_i e2)] []) (hk1 : ∀ (h : cz_H), cz_T K D 2 h0 oh 3 (k1 h) h 34 [] []) : ∀ (n : Nat) (l2 : Int32) (h : cz_H), cz_T K D 2 h0 oh 3 (fn_X5_aheadOf_2 l0 l1 k0 k1 n l2 h) h 2 [(0, cz_r l0), (1, cz_i l1), (2, cz_i l2)] [] := by
  intro n
  induction n with
  | zero => intros; exact ct_none
  | succ n ih =>
    intro l2 h
    rw [fn_X5_aheadOf_2]
    refine ct_iload_n (k := 2) S dX5_aheadOf_2 rfl rfl ?_
    refine ct_aload_n (k := 0) S dX5_aheadOf_3 rfl rfl ?_
    refine ct_getR S fw_X5_33 dX5_aheadOf_4 (fun r1 => ?_)
    refine ct_bipush (v := 117) S dX5_aheadOf_7 kB_117 ?_
    refine ct_iald S dX5_aheadOf_9 (fun x2 => ?_)
    refine ct_icmp_ge (tgt := 34) S dX5_aheadOf_10 (by decide) ?_ ?_
    · exact ct_sub [] rfl (hk1 h)
    · refine ct_aload_n (k := 0) S dX5_aheadOf_13 rfl rfl ?_
      refine ct_getR S fw_X5_33 dX5_aheadOf_14 (fun r3 => ?_)
      refine ct_bipush (v := 109) S dX5_aheadOf_17 kB_109 ?_
      refine ct_iload_n (k := 2) S dX5_aheadOf_19 rfl rfl ?_
      refine ct_iadd S dX5_aheadOf_20 ?_
      refine ct_iald S dX5_aheadOf_21 (fun x4 => ?_)
      refine ct_iload_n (k := 1) S dX5_aheadOf_22 rfl rfl ?_
      refine ct_icmp_ne (tgt := 28) S dX5_aheadOf_23 (by decide) ?_ ?_
      · refine ct_iincL (j := 2) (L2 := fun x5 => [(2, cz_i x5), (0, cz_r l0), (1, cz_i l1)]) S dX5_aheadOf_28 rfl kI_1 (by decide) (fun _ => rfl) (fun x5 => ?_)
        refine ct_goto (tgt := 2) S dX5_aheadOf_31 (by decide) ?_
        exact ct_sub [1, 2, 0] rfl (ih x5 h)
      · exact ct_sub [2] rfl (hk0 l2 h)
set_option maxHeartbeats 4000000 in
set_option maxRecDepth 100000 in
noncomputable def fn_X5_aheadOf (l0 : Option Nat) (l1 : Int32) (h : cz_H) : cz_Z := fn_X5_aheadOf_2 l0 l1 (fun (e6 : Int32) (h7 : cz_H) => some (.inl (some (cz_i e6)), h7)) (fun (h8 : cz_H) => some (.inl (some (cz_i (-1))), h8)) 1000 0 h
set_option maxHeartbeats 4000000 in
set_option maxRecDepth 100000 in
theorem wk_X5_aheadOf {K : cz_K} {D : cz_D} {h0 : cz_H} {oh : cz_O × cz_H} {l0 : Option Nat} {l1 : Int32} {h : cz_H} (S : cz_S K D h0 cX5_aheadOf 3 "HeldCoatsModel" ((Option.some Jvm.ClassFile.FieldType.int)) "aheadOf" ([])) : cz_T K D 2 h0 oh 3 (fn_X5_aheadOf l0 l1 h) h 0 [(0, cz_r l0), (1, cz_i l1)] [] := by
  unfold fn_X5_aheadOf
  refine ct_iconst (v := 0) S dX5_aheadOf_0 kI_0 ?_
  refine ct_istore_n (L' := [(2, cz_i 0), (0, cz_r l0), (1, cz_i l1)]) S dX5_aheadOf_1 rfl (by decide) rfl ?_
  refine ct_sub [1, 2, 0] (L' := [(0, cz_r l0), (1, cz_i l1), (2, cz_i 0)]) rfl (wk_X5_aheadOf_2 S ?_ ?_ 1000 0 h)
  · intro e6 h7
    refine ct_iload_n (k := 0) S dX5_aheadOf_26 rfl rfl ?_
    exact ct_iret S rfl dX5_aheadOf_27
  · intro h8
    refine ct_iconst (v := (-1)) S dX5_aheadOf_34 kI_m1 ?_
    exact ct_iret S rfl dX5_aheadOf_35
theorem mt_X5_aheadOf {l : Launch} {D : cz_D} {l0 : Option Nat} {l1 : Int32} {h : cz_H} {oh : cz_O × cz_H} (hz : fn_X5_aheadOf l0 l1 h = some oh) : cz_M l D yX5_aheadOf (ws_ yX5_aheadOf cX5_aheadOf 3 ((Option.some Jvm.ClassFile.FieldType.int))) 2 [cz_r l0, cz_i l1] h oh := cz_met (plainFor_of_name (by decide)) (Nat.le_of_ble_eq_true rfl) hz (fun K hl S => wk_X5_aheadOf S)
/-! HeldCoatsModel.isIn(III)Z -/
def dkwX5_isIn_0 : List UInt8 := [26, 27, 161, 0, 12, 26, 28, 163, 0, 7, 4, 167, 0, 4, 3, 172]
abbrev dktX5_isIn_0 : List UInt8 := dkwX5_isIn_0 ++ []
theorem dksX5_isIn_0 : cX5_isIn.data.toList.drop 0 = dktX5_isIn_0 := by decide +kernel
theorem dX5_isIn_0 : decode cX5_isIn 0 = .ok (.iload_n 0, 1) := dk_26 (dk_at dksX5_isIn_0 0 rfl rfl)
theorem dX5_isIn_1 : decode cX5_isIn 1 = .ok (.iload_n 1, 1) := dk_27 (dk_at dksX5_isIn_0 1 rfl rfl)
theorem dX5_isIn_2 : decode cX5_isIn 2 = .ok (.if_icmp .lt 12, 3) := dk_161 0 12 (dk_at dksX5_isIn_0 2 rfl rfl)
theorem dX5_isIn_5 : decode cX5_isIn 5 = .ok (.iload_n 0, 1) := dk_26 (dk_at dksX5_isIn_0 5 rfl rfl)
theorem dX5_isIn_6 : decode cX5_isIn 6 = .ok (.iload_n 2, 1) := dk_28 (dk_at dksX5_isIn_0 6 rfl rfl)
theorem dX5_isIn_7 : decode cX5_isIn 7 = .ok (.if_icmp .gt 7, 3) := dk_163 0 7 (dk_at dksX5_isIn_0 7 rfl rfl)
theorem dX5_isIn_10 : decode cX5_isIn 10 = .ok (.iconst 1, 1) := dk_4 (dk_at dksX5_isIn_0 10 rfl rfl)
theorem dX5_isIn_11 : decode cX5_isIn 11 = .ok (.goto 4, 3) := dk_167 0 4 (dk_at dksX5_isIn_0 11 rfl rfl)
theorem dX5_isIn_14 : decode cX5_isIn 14 = .ok (.iconst 0, 1) := dk_3 (dk_at dksX5_isIn_0 14 rfl rfl)
theorem dX5_isIn_15 : decode cX5_isIn 15 = .ok (.ireturn, 1) := dk_172 (dk_at dksX5_isIn_0 15 rfl rfl)
set_option maxHeartbeats 4000000 in
set_option maxRecDepth 100000 in
noncomputable def fn_X5_isIn (l0 : Int32) (l1 : Int32) (l2 : Int32) (h : cz_H) : cz_Z := (if l0 < l1 then some (.inl (some (cz_i 0)), h) else (if l2 < l0 then some (.inl (some (cz_i 0)), h) else some (.inl (some (cz_i 1)), h)))
set_option maxHeartbeats 4000000 in
set_option maxRecDepth 100000 in
theorem wk_X5_isIn {K : cz_K} {D : cz_D} {h0 : cz_H} {oh : cz_O × cz_H} {l0 : Int32} {l1 : Int32} {l2 : Int32} {h : cz_H} (S : cz_S K D h0 cX5_isIn 3 "HeldCoatsModel" ((Option.some Jvm.ClassFile.FieldType.boolean)) "isIn" ([])) : cz_T K D 2 h0 oh 3 (fn_X5_isIn l0 l1 l2 h) h 0 [(0, cz_i l0), (1, cz_i l1), (2, cz_i l2)] [] := by
  unfold fn_X5_isIn
  refine ct_iload_n (k := 0) S dX5_isIn_0 rfl rfl ?_
  refine ct_iload_n (k := 1) S dX5_isIn_1 rfl rfl ?_
  refine ct_icmp_lt (tgt := 14) S dX5_isIn_2 (by decide) ?_ ?_
  · refine ct_iconst (v := 0) S dX5_isIn_14 kI_0 ?_
    exact ct_zr (ty := .boolean) S rfl rfl dX5_isIn_15
  · refine ct_iload_n (k := 0) S dX5_isIn_5 rfl rfl ?_
    refine ct_iload_n (k := 2) S dX5_isIn_6 rfl rfl ?_
    refine ct_icmp_gt (tgt := 14) S dX5_isIn_7 (by decide) ?_ ?_
    · refine ct_iconst (v := 0) S dX5_isIn_14 kI_0 ?_
      exact ct_zr (ty := .boolean) S rfl rfl dX5_isIn_15
    · refine ct_iconst (v := 1) S dX5_isIn_10 kI_1 ?_
      refine ct_goto (tgt := 15) S dX5_isIn_11 (by decide) ?_
      exact ct_zr (ty := .boolean) S rfl rfl dX5_isIn_15
theorem mt_X5_isIn {l : Launch} {D : cz_D} {l0 : Int32} {l1 : Int32} {l2 : Int32} {h : cz_H} {oh : cz_O × cz_H} (hz : fn_X5_isIn l0 l1 l2 h = some oh) : cz_M l D yX5_isIn (ws_ yX5_isIn cX5_isIn 3 ((Option.some Jvm.ClassFile.FieldType.boolean))) 2 [cz_i l0, cz_i l1, cz_i l2] h oh := cz_met (plainFor_of_name (by decide)) (Nat.le_of_ble_eq_true rfl) hz (fun K hl S => wk_X5_isIn S)
/-! HeldCoatsModel.isCoat(I)Z -/
def dkwX5_isCoat_0 : List UInt8 := [27, 3, 42, 180, 0, 33, 5, 46, 4, 100, 184, 0, 171, 172]
abbrev dktX5_isCoat_0 : List UInt8 := dkwX5_isCoat_0 ++ []
theorem dksX5_isCoat_0 : cX5_isCoat.data.toList.drop 0 = dktX5_isCoat_0 := by decide +kernel
theorem dX5_isCoat_0 : decode cX5_isCoat 0 = .ok (.iload_n 1, 1) := dk_27 (dk_at dksX5_isCoat_0 0 rfl rfl)
theorem dX5_isCoat_1 : decode cX5_isCoat 1 = .ok (.iconst 0, 1) := dk_3 (dk_at dksX5_isCoat_0 1 rfl rfl)
theorem dX5_isCoat_2 : decode cX5_isCoat 2 = .ok (.aload_n 0, 1) := dk_42 (dk_at dksX5_isCoat_0 2 rfl rfl)
theorem dX5_isCoat_3 : decode cX5_isCoat 3 = .ok (.getfield 33, 3) := dk_180 0 33 (dk_at dksX5_isCoat_0 3 rfl rfl)
theorem dX5_isCoat_6 : decode cX5_isCoat 6 = .ok (.iconst 2, 1) := dk_5 (dk_at dksX5_isCoat_0 6 rfl rfl)
theorem dX5_isCoat_7 : decode cX5_isCoat 7 = .ok (.iaload, 1) := dk_46 (dk_at dksX5_isCoat_0 7 rfl rfl)
theorem dX5_isCoat_8 : decode cX5_isCoat 8 = .ok (.iconst 1, 1) := dk_4 (dk_at dksX5_isCoat_0 8 rfl rfl)
theorem dX5_isCoat_9 : decode cX5_isCoat 9 = .ok (.isub, 1) := dk_100 (dk_at dksX5_isCoat_0 9 rfl rfl)
theorem dX5_isCoat_10 : decode cX5_isCoat 10 = .ok (.invokestatic 171, 3) := dk_184 0 171 (dk_at dksX5_isCoat_0 10 rfl rfl)
theorem dX5_isCoat_13 : decode cX5_isCoat 13 = .ok (.ireturn, 1) := dk_172 (dk_at dksX5_isCoat_0 13 rfl rfl)
theorem md_X5_isIn : cz_md yX5_isIn 3 (ws_ yX5_isIn cX5_isIn 3 ((Option.some Jvm.ClassFile.FieldType.boolean))) 3 := ⟨cz_ws_code q2124, q123, ⟨by decide, by decide, by decide +kernel⟩, by decide⟩
theorem kI_2 : Int32.ofInt (2) = 2 := by decide
set_option maxHeartbeats 4000000 in
set_option maxRecDepth 100000 in
noncomputable def fn_X5_isCoat (l0 : Option Nat) (l1 : Int32) (h : cz_H) : cz_Z := cz_getR h l0 [(5, 6)] (fun r1 => cz_iald h r1 2 (fun x2 => cz_cI (fn_X5_isIn l1 0 (x2 - 1) h) (fun x4 h3 => cz_ckz x4 (some (.inl (some (cz_i x4)), h3)))))
set_option maxHeartbeats 4000000 in
set_option maxRecDepth 100000 in
theorem wk_X5_isCoat {K : cz_K} {D : cz_D} {h0 : cz_H} {oh : cz_O × cz_H} {l0 : Option Nat} {l1 : Int32} {h : cz_H} (S : cz_S K D h0 cX5_isCoat 2 "HeldCoatsModel" ((Option.some Jvm.ClassFile.FieldType.boolean)) "isCoat" ([])) : cz_T K D 3 h0 oh 2 (fn_X5_isCoat l0 l1 h) h 0 [(0, cz_r l0), (1, cz_i l1)] [] := by
  unfold fn_X5_isCoat
  refine ct_iload_n (k := 1) S dX5_isCoat_0 rfl rfl ?_
  refine ct_iconst (v := 0) S dX5_isCoat_1 kI_0 ?_
  refine ct_aload_n (k := 0) S dX5_isCoat_2 rfl rfl ?_
  refine ct_getR S fw_X5_33 dX5_isCoat_3 (fun r1 => ?_)
  refine ct_iconst (v := 2) S dX5_isCoat_6 kI_2 ?_
  refine ct_iald S dX5_isCoat_7 (fun x2 => ?_)
  refine ct_iconst (v := 1) S dX5_isCoat_8 kI_1 ?_
  refine ct_isub S dX5_isCoat_9 ?_
  refine ct_cI (st := []) (cg_static (av := [cz_i l1, cz_i 0, cz_i (x2 - 1)]) S (fun _ e => mt_X5_isIn e) md_X5_isIn (Or.inl q2122) q2123 (by decide) (Nat.le_of_ble_eq_true rfl) rfl dX5_isCoat_10) (fun x4 h3 => ?_)
  refine ct_ckz (fun hx => ?_)
  exact ct_zr (ty := .boolean) S rfl (cz_nz hx) dX5_isCoat_13
theorem mt_X5_isCoat {l : Launch} {D : cz_D} {l0 : Option Nat} {l1 : Int32} {h : cz_H} {oh : cz_O × cz_H} (hz : fn_X5_isCoat l0 l1 h = some oh) : cz_M l D yX5_isCoat (ws_ yX5_isCoat cX5_isCoat 2 ((Option.some Jvm.ClassFile.FieldType.boolean))) 3 [cz_r l0, cz_i l1] h oh := cz_met (plainFor_of_name (by decide)) (Nat.le_of_ble_eq_true rfl) hz (fun K hl S => wk_X5_isCoat S)
/-! HeldCoatsModel.ahead(I)I -/
def dkwX5_ahead_0 : List UInt8 := [42, 3, 181, 0, 1, 42, 27, 182, 1, 24, 153, 0, 11, 42, 27, 182, 1, 89, 167, 0, 4, 2, 172]
abbrev dktX5_ahead_0 : List UInt8 := dkwX5_ahead_0 ++ []
theorem dksX5_ahead_0 : cX5_ahead.data.toList.drop 0 = dktX5_ahead_0 := by decide +kernel
theorem dX5_ahead_0 : decode cX5_ahead 0 = .ok (.aload_n 0, 1) := dk_42 (dk_at dksX5_ahead_0 0 rfl rfl)
theorem dX5_ahead_1 : decode cX5_ahead 1 = .ok (.iconst 0, 1) := dk_3 (dk_at dksX5_ahead_0 1 rfl rfl)
theorem dX5_ahead_2 : decode cX5_ahead 2 = .ok (.putfield 1, 3) := dk_181 0 1 (dk_at dksX5_ahead_0 2 rfl rfl)
theorem dX5_ahead_5 : decode cX5_ahead 5 = .ok (.aload_n 0, 1) := dk_42 (dk_at dksX5_ahead_0 5 rfl rfl)
theorem dX5_ahead_6 : decode cX5_ahead 6 = .ok (.iload_n 1, 1) := dk_27 (dk_at dksX5_ahead_0 6 rfl rfl)
theorem dX5_ahead_7 : decode cX5_ahead 7 = .ok (.invokevirtual 280, 3) := dk_182 1 24 (dk_at dksX5_ahead_0 7 rfl rfl)
theorem dX5_ahead_10 : decode cX5_ahead 10 = .ok (.ifCond .eq 11, 3) := dk_153 0 11 (dk_at dksX5_ahead_0 10 rfl rfl)
theorem dX5_ahead_13 : decode cX5_ahead 13 = .ok (.aload_n 0, 1) := dk_42 (dk_at dksX5_ahead_0 13 rfl rfl)
theorem dX5_ahead_14 : decode cX5_ahead 14 = .ok (.iload_n 1, 1) := dk_27 (dk_at dksX5_ahead_0 14 rfl rfl)
theorem dX5_ahead_15 : decode cX5_ahead 15 = .ok (.invokevirtual 345, 3) := dk_182 1 89 (dk_at dksX5_ahead_0 15 rfl rfl)
theorem dX5_ahead_18 : decode cX5_ahead 18 = .ok (.goto 4, 3) := dk_167 0 4 (dk_at dksX5_ahead_0 18 rfl rfl)
theorem dX5_ahead_21 : decode cX5_ahead 21 = .ok (.iconst (-1), 1) := dk_2 (dk_at dksX5_ahead_0 21 rfl rfl)
theorem dX5_ahead_22 : decode cX5_ahead 22 = .ok (.ireturn, 1) := dk_172 (dk_at dksX5_ahead_0 22 rfl rfl)
theorem fw_X5_1 : cz_FW "HeldCoatsModel" 1 [(5, 0)] "I" := ⟨"HeldCoatsModel", "thrown", Or.inl q1918, List.forall_mem_cons.mpr ⟨⟨RX5, TX5, 49, rfl, by decide, rfl, rfl, Or.inl rfl⟩, fun _ h => absurd h List.not_mem_nil⟩, by decide⟩
theorem fp_X5_m_5_0 {nm : String} : cz_FP "HeldCoatsModel" nm [(5, 0)] := List.forall_mem_cons.mpr ⟨⟨RX5, TX5, 49, rfl, Or.inl rfl⟩, fun _ h => absurd h List.not_mem_nil⟩
theorem pd_I : parseFieldDescriptor "I" = some .int := by decide +kernel
theorem se_HeldCoatsModel_isCoat__I_Z_HeldCoatsModel : ∀ c ∈ ([5] : List Nat), ∃ q : vw_C, cz_cl[c]? = some q ∧ Cond.selects q.1 (⟨"HeldCoatsModel", "isCoat", "(I)Z"⟩ : MethodName) (⟨"HeldCoatsModel", "isCoat", "(I)Z"⟩ : MethodName) ∈ lw_all := List.forall_mem_cons.mpr ⟨⟨_, cz_cl5, qs75⟩, fun _ h => absurd h List.not_mem_nil⟩
theorem md_X5_isCoat : cz_md yX5_isCoat 2 (ws_ yX5_isCoat cX5_isCoat 2 ((Option.some Jvm.ClassFile.FieldType.boolean))) 1 := ⟨cz_ws_code q2222, q123, ⟨by decide, by decide, by decide +kernel⟩, by decide⟩
theorem se_HeldCoatsModel_aheadOf__I_I_HeldCoatsModel : ∀ c ∈ ([5] : List Nat), ∃ q : vw_C, cz_cl[c]? = some q ∧ Cond.selects q.1 (⟨"HeldCoatsModel", "aheadOf", "(I)I"⟩ : MethodName) (⟨"HeldCoatsModel", "aheadOf", "(I)I"⟩ : MethodName) ∈ lw_all := List.forall_mem_cons.mpr ⟨⟨_, cz_cl5, qs92⟩, fun _ h => absurd h List.not_mem_nil⟩
theorem md_X5_aheadOf : cz_md yX5_aheadOf 3 (ws_ yX5_aheadOf cX5_aheadOf 3 ((Option.some Jvm.ClassFile.FieldType.int))) 1 := ⟨cz_ws_code q2341, q123, ⟨by decide, by decide, by decide +kernel⟩, by decide⟩
set_option maxHeartbeats 4000000 in
set_option maxRecDepth 100000 in
noncomputable def fn_X5_ahead (l0 : Option Nat) (l1 : Int32) (h : cz_H) : cz_Z := cz_put h l0 [(5, 0)] (cz_i 0) (fun h1 => cz_rc h1 l0 [5] (cz_cI (fn_X5_isCoat l0 l1 h1) (fun x9 h8 => (if x9 = 0 then some (.inl (some (cz_i (-1))), h8) else cz_rc h8 l0 [5] (cz_cI (fn_X5_aheadOf l0 l1 h8) (fun x17 h16 => some (.inl (some (cz_i x17)), h16)))))))
set_option maxHeartbeats 4000000 in
set_option maxRecDepth 100000 in
theorem wk_X5_ahead {K : cz_K} {D : cz_D} {h0 : cz_H} {oh : cz_O × cz_H} {l0 : Option Nat} {l1 : Int32} {h : cz_H} (S : cz_S K D h0 cX5_ahead 2 "HeldCoatsModel" ((Option.some Jvm.ClassFile.FieldType.int)) "ahead" ([])) : cz_T K D 4 h0 oh 2 (fn_X5_ahead l0 l1 h) h 0 [(0, cz_r l0), (1, cz_i l1)] [] := by
  unfold fn_X5_ahead
  refine ct_aload_n (k := 0) S dX5_ahead_0 rfl rfl ?_
  refine ct_iconst (v := 0) S dX5_ahead_1 kI_0 ?_
  refine ct_put S fw_X5_1 fp_X5_m_5_0 (cz_fits_i pd_I) dX5_ahead_2 (fun h1 => ?_)
  refine ct_aload_n (k := 0) S dX5_ahead_5 rfl rfl ?_
  refine ct_iload_n (k := 1) S dX5_ahead_6 rfl rfl ?_
  refine ct_rc (fun b2 ci3 V4 hb5 hc6 hi7 => ?_)
  refine ct_cI (st := []) (cg_virtual (av := [cz_i l1]) S hb5 hc6 hi7 (fun _ e => mt_X5_isCoat e) md_X5_isCoat q2219 q2221 se_HeldCoatsModel_isCoat__I_Z_HeldCoatsModel (by decide) (Nat.le_of_ble_eq_true rfl) rfl dX5_ahead_7) (fun x9 h8 => ?_)
  refine ct_if_eq (tgt := 21) S dX5_ahead_10 (by decide) ?_ ?_
  · refine ct_iconst (v := (-1)) S dX5_ahead_21 kI_m1 ?_
    exact ct_iret S rfl dX5_ahead_22
  · refine ct_aload_n (k := 0) S dX5_ahead_13 rfl rfl ?_
    refine ct_iload_n (k := 1) S dX5_ahead_14 rfl rfl ?_
    refine ct_rc (fun b10 ci11 V12 hb13 hc14 hi15 => ?_)
    refine ct_cI (st := []) (cg_virtual (av := [cz_i l1]) S hb13 hc14 hi15 (fun _ e => mt_X5_aheadOf e) md_X5_aheadOf q2338 q2340 se_HeldCoatsModel_aheadOf__I_I_HeldCoatsModel (by decide) (Nat.le_of_ble_eq_true rfl) rfl dX5_ahead_15) (fun x17 h16 => ?_)
    refine ct_goto (tgt := 22) S dX5_ahead_18 (by decide) ?_
    exact ct_iret S rfl dX5_ahead_22
theorem mt_X5_ahead {l : Launch} {D : cz_D} {l0 : Option Nat} {l1 : Int32} {h : cz_H} {oh : cz_O × cz_H} (hz : fn_X5_ahead l0 l1 h = some oh) : cz_M l D yX5_ahead (ws_ yX5_ahead cX5_ahead 2 ((Option.some Jvm.ClassFile.FieldType.int))) 4 [cz_r l0, cz_i l1] h oh := cz_met (plainFor_of_name (by decide)) (Nat.le_of_ble_eq_true rfl) hz (fun K hl S => wk_X5_ahead S)
/-! HeldCoatsModel.back()V -/
def dkwX5_back_1 : List UInt8 := [132, 1, 1, 167, 255, 232, 177]
abbrev dktX5_back_1 : List UInt8 := dkwX5_back_1 ++ []
def dkwX5_back_0 : List UInt8 := [3, 60, 27, 16, 56, 162, 0, 24, 42, 180, 0, 33, 16, 62, 27, 96, 42, 180, 0, 53, 27, 46, 79]
abbrev dktX5_back_0 : List UInt8 := dkwX5_back_0 ++ dktX5_back_1
theorem dksX5_back_0 : cX5_back.data.toList.drop 0 = dktX5_back_0 := by decide +kernel
theorem dksX5_back_1 : cX5_back.data.toList.drop 23 = dktX5_back_1 := dk_seg dksX5_back_0 23 rfl rfl
theorem dX5_back_0 : decode cX5_back 0 = .ok (.iconst 0, 1) := dk_3 (dk_at dksX5_back_0 0 rfl rfl)
theorem dX5_back_1 : decode cX5_back 1 = .ok (.istore_n 1, 1) := dk_60 (dk_at dksX5_back_0 1 rfl rfl)
theorem dX5_back_2 : decode cX5_back 2 = .ok (.iload_n 1, 1) := dk_27 (dk_at dksX5_back_0 2 rfl rfl)
theorem dX5_back_3 : decode cX5_back 3 = .ok (.bipush 56, 2) := dk_16 56 (dk_at dksX5_back_0 3 rfl rfl)
theorem dX5_back_5 : decode cX5_back 5 = .ok (.if_icmp .ge 24, 3) := dk_162 0 24 (dk_at dksX5_back_0 5 rfl rfl)
theorem dX5_back_8 : decode cX5_back 8 = .ok (.aload_n 0, 1) := dk_42 (dk_at dksX5_back_0 8 rfl rfl)
theorem dX5_back_9 : decode cX5_back 9 = .ok (.getfield 33, 3) := dk_180 0 33 (dk_at dksX5_back_0 9 rfl rfl)
theorem dX5_back_12 : decode cX5_back 12 = .ok (.bipush 62, 2) := dk_16 62 (dk_at dksX5_back_0 12 rfl rfl)
theorem dX5_back_14 : decode cX5_back 14 = .ok (.iload_n 1, 1) := dk_27 (dk_at dksX5_back_0 14 rfl rfl)
theorem dX5_back_15 : decode cX5_back 15 = .ok (.iadd, 1) := dk_96 (dk_at dksX5_back_0 15 rfl rfl)
theorem dX5_back_16 : decode cX5_back 16 = .ok (.aload_n 0, 1) := dk_42 (dk_at dksX5_back_0 16 rfl rfl)
theorem dX5_back_17 : decode cX5_back 17 = .ok (.getfield 53, 3) := dk_180 0 53 (dk_at dksX5_back_0 17 rfl rfl)
theorem dX5_back_20 : decode cX5_back 20 = .ok (.iload_n 1, 1) := dk_27 (dk_at dksX5_back_0 20 rfl rfl)
theorem dX5_back_21 : decode cX5_back 21 = .ok (.iaload, 1) := dk_46 (dk_at dksX5_back_0 21 rfl rfl)
theorem dX5_back_22 : decode cX5_back 22 = .ok (.iastore, 1) := dk_79 (dk_at dksX5_back_0 22 rfl rfl)
theorem dX5_back_23 : decode cX5_back 23 = .ok (.iinc 1 1, 3) := dk_132 1 1 (dk_at dksX5_back_1 0 rfl rfl)
theorem dX5_back_26 : decode cX5_back 26 = .ok (.goto (-24), 3) := dk_167 255 232 (dk_at dksX5_back_1 3 rfl rfl)
theorem dX5_back_29 : decode cX5_back 29 = .ok (.return_, 1) := dk_177 (dk_at dksX5_back_1 6 rfl rfl)
theorem fw_X5_53 : cz_FW "HeldCoatsModel" 53 [(5, 22)] "[I" := ⟨"HeldCoatsModel", "before", Or.inl q1940, List.forall_mem_cons.mpr ⟨⟨RX5, TX5, 49, rfl, by decide, rfl, rfl, Or.inl rfl⟩, fun _ h => absurd h List.not_mem_nil⟩, by decide⟩
theorem kB_62 : (Int8.ofInt (62)).toInt32 = 62 := by decide
theorem kB_56 : (Int8.ofInt (56)).toInt32 = 56 := by decide
set_option maxHeartbeats 4000000 in
set_option maxRecDepth 100000 in
noncomputable def fn_X5_back_2 (l0 : Option Nat) (k0 : cz_H → cz_Z) : Nat → Int32 → cz_H → cz_Z
  | 0, _, _ => none
  | n + 1, l1, h => (if (56 : Int32) ≤ l1 then k0 h else cz_getR h l0 [(5, 6)] (fun r1 => cz_getR h l0 [(5, 22)] (fun r2 => cz_iald h r2 l1 (fun x3 => cz_iast h r1 ((62 : Int32) + l1) x3 (fun h4 => cz_leti (l1 + 1) (fun x5 => fn_X5_back_2 l0 k0 n x5 h4))))))
set_option maxHeartbeats 4000000 in
set_option maxRecDepth 100000 in
theorem wk_X5_back_2 {K : cz_K} {D : cz_D} {h0 : cz_H} {oh : cz_O × cz_H} {l0 : Option Nat} {k0 : cz_H → cz_Z} (S : cz_S K D h0 cX5_back 2 "HeldCoatsModel" ((Option.none : Option Jvm.ClassFile.FieldType)) "back" ([])) (hk0 : ∀ (h : cz_H), cz_T K D 2 h0 oh 2 (k0 h) h 29 [] []) : ∀ (n : Nat) (l1 : Int32) (h : cz_H), cz_T K D 2 h0 oh 2 (fn_X5_back_2 l0 k0 n l1 h) h 2 [(0, cz_r l0), (1, cz_i l1)] [] := by
  intro n
  induction n with
  | zero => intros; exact ct_none
  | succ n ih =>
    intro l1 h
    rw [fn_X5_back_2]
    refine ct_iload_n (k := 1) S dX5_back_2 rfl rfl ?_
    refine ct_bipush (v := 56) S dX5_back_3 kB_56 ?_
    refine ct_icmp_ge (tgt := 29) S dX5_back_5 (by decide) ?_ ?_
    · exact ct_sub [] rfl (hk0 h)
    · refine ct_aload_n (k := 0) S dX5_back_8 rfl rfl ?_
      refine ct_getR S fw_X5_33 dX5_back_9 (fun r1 => ?_)
      refine ct_bipush (v := 62) S dX5_back_12 kB_62 ?_
      refine ct_iload_n (k := 1) S dX5_back_14 rfl rfl ?_
      refine ct_iadd S dX5_back_15 ?_
      refine ct_aload_n (k := 0) S dX5_back_16 rfl rfl ?_
      refine ct_getR S fw_X5_53 dX5_back_17 (fun r2 => ?_)
      refine ct_iload_n (k := 1) S dX5_back_20 rfl rfl ?_
      refine ct_iald S dX5_back_21 (fun x3 => ?_)
      refine ct_iast S dX5_back_22 (fun h4 => ?_)
      refine ct_iincL (j := 1) (L2 := fun x5 => [(1, cz_i x5), (0, cz_r l0)]) S dX5_back_23 rfl kI_1 (by decide) (fun _ => rfl) (fun x5 => ?_)
      refine ct_goto (tgt := 2) S dX5_back_26 (by decide) ?_
      exact ct_sub [1, 0] rfl (ih x5 h4)
set_option maxHeartbeats 4000000 in
set_option maxRecDepth 100000 in
noncomputable def fn_X5_back (l0 : Option Nat) (h : cz_H) : cz_Z := fn_X5_back_2 l0 (fun (h6 : cz_H) => some (.inl none, h6)) 1000 0 h
set_option maxHeartbeats 4000000 in
set_option maxRecDepth 100000 in
theorem wk_X5_back {K : cz_K} {D : cz_D} {h0 : cz_H} {oh : cz_O × cz_H} {l0 : Option Nat} {h : cz_H} (S : cz_S K D h0 cX5_back 2 "HeldCoatsModel" ((Option.none : Option Jvm.ClassFile.FieldType)) "back" ([])) : cz_T K D 2 h0 oh 2 (fn_X5_back l0 h) h 0 [(0, cz_r l0)] [] := by
  unfold fn_X5_back
  refine ct_iconst (v := 0) S dX5_back_0 kI_0 ?_
  refine ct_istore_n (L' := [(1, cz_i 0), (0, cz_r l0)]) S dX5_back_1 rfl (by decide) rfl ?_
  refine ct_sub [1, 0] (L' := [(0, cz_r l0), (1, cz_i 0)]) rfl (wk_X5_back_2 S ?_ 1000 0 h)
  · intro h6
    exact ct_vret S rfl dX5_back_29
theorem mt_X5_back {l : Launch} {D : cz_D} {l0 : Option Nat} {h : cz_H} {oh : cz_O × cz_H} (hz : fn_X5_back l0 h = some oh) : cz_M l D yX5_back (ws_ yX5_back cX5_back 2 ((Option.none : Option Jvm.ClassFile.FieldType))) 2 [cz_r l0] h oh := cz_met (plainFor_of_name (by decide)) (Nat.le_of_ble_eq_true rfl) hz (fun K hl S => wk_X5_back S)
/-! HeldCoatsModel.coldOn(I)I -/
def dkwX5_coldOn_3 : List UInt8 := [62, 132, 4, 1, 167, 255, 188, 29, 172]
abbrev dktX5_coldOn_3 : List UInt8 := dkwX5_coldOn_3 ++ []
def dkwX5_coldOn_2 : List UInt8 := [167, 0, 25, 42, 180, 0, 33, 16, 46, 21, 4, 96, 46, 61, 42, 180, 0, 33, 16, 54, 21, 4, 96, 46]
abbrev dktX5_coldOn_2 : List UInt8 := dkwX5_coldOn_2 ++ dktX5_coldOn_3
def dkwX5_coldOn_1 : List UInt8 := [16, 46, 21, 4, 96, 46, 27, 163, 0, 42, 42, 180, 0, 33, 16, 46, 21, 4, 96, 46, 28, 162, 0, 6]
abbrev dktX5_coldOn_1 : List UInt8 := dkwX5_coldOn_1 ++ dktX5_coldOn_2
def dkwX5_coldOn_0 : List UInt8 := [2, 61, 3, 62, 3, 54, 4, 21, 4, 42, 180, 0, 33, 16, 7, 46, 162, 0, 62, 42, 180, 0, 33]
abbrev dktX5_coldOn_0 : List UInt8 := dkwX5_coldOn_0 ++ dktX5_coldOn_1
theorem dksX5_coldOn_0 : cX5_coldOn.data.toList.drop 0 = dktX5_coldOn_0 := by decide +kernel
theorem dksX5_coldOn_1 : cX5_coldOn.data.toList.drop 23 = dktX5_coldOn_1 := dk_seg dksX5_coldOn_0 23 rfl rfl
theorem dksX5_coldOn_2 : cX5_coldOn.data.toList.drop 47 = dktX5_coldOn_2 := dk_seg dksX5_coldOn_1 24 rfl rfl
theorem dksX5_coldOn_3 : cX5_coldOn.data.toList.drop 71 = dktX5_coldOn_3 := dk_seg dksX5_coldOn_2 24 rfl rfl
theorem dX5_coldOn_0 : decode cX5_coldOn 0 = .ok (.iconst (-1), 1) := dk_2 (dk_at dksX5_coldOn_0 0 rfl rfl)
theorem dX5_coldOn_1 : decode cX5_coldOn 1 = .ok (.istore_n 2, 1) := dk_61 (dk_at dksX5_coldOn_0 1 rfl rfl)
theorem dX5_coldOn_2 : decode cX5_coldOn 2 = .ok (.iconst 0, 1) := dk_3 (dk_at dksX5_coldOn_0 2 rfl rfl)
theorem dX5_coldOn_3 : decode cX5_coldOn 3 = .ok (.istore_n 3, 1) := dk_62 (dk_at dksX5_coldOn_0 3 rfl rfl)
theorem dX5_coldOn_4 : decode cX5_coldOn 4 = .ok (.iconst 0, 1) := dk_3 (dk_at dksX5_coldOn_0 4 rfl rfl)
theorem dX5_coldOn_5 : decode cX5_coldOn 5 = .ok (.istore 4, 2) := dk_54 4 (dk_at dksX5_coldOn_0 5 rfl rfl)
theorem dX5_coldOn_7 : decode cX5_coldOn 7 = .ok (.iload 4, 2) := dk_21 4 (dk_at dksX5_coldOn_0 7 rfl rfl)
theorem dX5_coldOn_9 : decode cX5_coldOn 9 = .ok (.aload_n 0, 1) := dk_42 (dk_at dksX5_coldOn_0 9 rfl rfl)
theorem dX5_coldOn_10 : decode cX5_coldOn 10 = .ok (.getfield 33, 3) := dk_180 0 33 (dk_at dksX5_coldOn_0 10 rfl rfl)
theorem dX5_coldOn_13 : decode cX5_coldOn 13 = .ok (.bipush 7, 2) := dk_16 7 (dk_at dksX5_coldOn_0 13 rfl rfl)
theorem dX5_coldOn_15 : decode cX5_coldOn 15 = .ok (.iaload, 1) := dk_46 (dk_at dksX5_coldOn_0 15 rfl rfl)
theorem dX5_coldOn_16 : decode cX5_coldOn 16 = .ok (.if_icmp .ge 62, 3) := dk_162 0 62 (dk_at dksX5_coldOn_0 16 rfl rfl)
theorem dX5_coldOn_19 : decode cX5_coldOn 19 = .ok (.aload_n 0, 1) := dk_42 (dk_at dksX5_coldOn_0 19 rfl rfl)
theorem dX5_coldOn_20 : decode cX5_coldOn 20 = .ok (.getfield 33, 3) := dk_180 0 33 (dk_at dksX5_coldOn_0 20 rfl rfl)
theorem dX5_coldOn_23 : decode cX5_coldOn 23 = .ok (.bipush 46, 2) := dk_16 46 (dk_at dksX5_coldOn_1 0 rfl rfl)
theorem dX5_coldOn_25 : decode cX5_coldOn 25 = .ok (.iload 4, 2) := dk_21 4 (dk_at dksX5_coldOn_1 2 rfl rfl)
theorem dX5_coldOn_27 : decode cX5_coldOn 27 = .ok (.iadd, 1) := dk_96 (dk_at dksX5_coldOn_1 4 rfl rfl)
theorem dX5_coldOn_28 : decode cX5_coldOn 28 = .ok (.iaload, 1) := dk_46 (dk_at dksX5_coldOn_1 5 rfl rfl)
theorem dX5_coldOn_29 : decode cX5_coldOn 29 = .ok (.iload_n 1, 1) := dk_27 (dk_at dksX5_coldOn_1 6 rfl rfl)
theorem dX5_coldOn_30 : decode cX5_coldOn 30 = .ok (.if_icmp .gt 42, 3) := dk_163 0 42 (dk_at dksX5_coldOn_1 7 rfl rfl)
theorem dX5_coldOn_33 : decode cX5_coldOn 33 = .ok (.aload_n 0, 1) := dk_42 (dk_at dksX5_coldOn_1 10 rfl rfl)
theorem dX5_coldOn_34 : decode cX5_coldOn 34 = .ok (.getfield 33, 3) := dk_180 0 33 (dk_at dksX5_coldOn_1 11 rfl rfl)
theorem dX5_coldOn_37 : decode cX5_coldOn 37 = .ok (.bipush 46, 2) := dk_16 46 (dk_at dksX5_coldOn_1 14 rfl rfl)
theorem dX5_coldOn_39 : decode cX5_coldOn 39 = .ok (.iload 4, 2) := dk_21 4 (dk_at dksX5_coldOn_1 16 rfl rfl)
theorem dX5_coldOn_41 : decode cX5_coldOn 41 = .ok (.iadd, 1) := dk_96 (dk_at dksX5_coldOn_1 18 rfl rfl)
theorem dX5_coldOn_42 : decode cX5_coldOn 42 = .ok (.iaload, 1) := dk_46 (dk_at dksX5_coldOn_1 19 rfl rfl)
theorem dX5_coldOn_43 : decode cX5_coldOn 43 = .ok (.iload_n 2, 1) := dk_28 (dk_at dksX5_coldOn_1 20 rfl rfl)
theorem dX5_coldOn_44 : decode cX5_coldOn 44 = .ok (.if_icmp .ge 6, 3) := dk_162 0 6 (dk_at dksX5_coldOn_1 21 rfl rfl)
theorem dX5_coldOn_47 : decode cX5_coldOn 47 = .ok (.goto 25, 3) := dk_167 0 25 (dk_at dksX5_coldOn_2 0 rfl rfl)
theorem dX5_coldOn_50 : decode cX5_coldOn 50 = .ok (.aload_n 0, 1) := dk_42 (dk_at dksX5_coldOn_2 3 rfl rfl)
theorem dX5_coldOn_51 : decode cX5_coldOn 51 = .ok (.getfield 33, 3) := dk_180 0 33 (dk_at dksX5_coldOn_2 4 rfl rfl)
theorem dX5_coldOn_54 : decode cX5_coldOn 54 = .ok (.bipush 46, 2) := dk_16 46 (dk_at dksX5_coldOn_2 7 rfl rfl)
theorem dX5_coldOn_56 : decode cX5_coldOn 56 = .ok (.iload 4, 2) := dk_21 4 (dk_at dksX5_coldOn_2 9 rfl rfl)
theorem dX5_coldOn_58 : decode cX5_coldOn 58 = .ok (.iadd, 1) := dk_96 (dk_at dksX5_coldOn_2 11 rfl rfl)
theorem dX5_coldOn_59 : decode cX5_coldOn 59 = .ok (.iaload, 1) := dk_46 (dk_at dksX5_coldOn_2 12 rfl rfl)
theorem dX5_coldOn_60 : decode cX5_coldOn 60 = .ok (.istore_n 2, 1) := dk_61 (dk_at dksX5_coldOn_2 13 rfl rfl)
theorem dX5_coldOn_61 : decode cX5_coldOn 61 = .ok (.aload_n 0, 1) := dk_42 (dk_at dksX5_coldOn_2 14 rfl rfl)
theorem dX5_coldOn_62 : decode cX5_coldOn 62 = .ok (.getfield 33, 3) := dk_180 0 33 (dk_at dksX5_coldOn_2 15 rfl rfl)
theorem dX5_coldOn_65 : decode cX5_coldOn 65 = .ok (.bipush 54, 2) := dk_16 54 (dk_at dksX5_coldOn_2 18 rfl rfl)
theorem dX5_coldOn_67 : decode cX5_coldOn 67 = .ok (.iload 4, 2) := dk_21 4 (dk_at dksX5_coldOn_2 20 rfl rfl)
theorem dX5_coldOn_69 : decode cX5_coldOn 69 = .ok (.iadd, 1) := dk_96 (dk_at dksX5_coldOn_2 22 rfl rfl)
theorem dX5_coldOn_70 : decode cX5_coldOn 70 = .ok (.iaload, 1) := dk_46 (dk_at dksX5_coldOn_2 23 rfl rfl)
theorem dX5_coldOn_71 : decode cX5_coldOn 71 = .ok (.istore_n 3, 1) := dk_62 (dk_at dksX5_coldOn_3 0 rfl rfl)
theorem dX5_coldOn_72 : decode cX5_coldOn 72 = .ok (.iinc 4 1, 3) := dk_132 4 1 (dk_at dksX5_coldOn_3 1 rfl rfl)
theorem dX5_coldOn_75 : decode cX5_coldOn 75 = .ok (.goto (-68), 3) := dk_167 255 188 (dk_at dksX5_coldOn_3 4 rfl rfl)
theorem dX5_coldOn_78 : decode cX5_coldOn 78 = .ok (.iload_n 3, 1) := dk_29 (dk_at dksX5_coldOn_3 7 rfl rfl)
theorem dX5_coldOn_79 : decode cX5_coldOn 79 = .ok (.ireturn, 1) := dk_172 (dk_at dksX5_coldOn_3 8 rfl rfl)
theorem kB_54 : (Int8.ofInt (54)).toInt32 = 54 := by decide
theorem kB_46 : (Int8.ofInt (46)).toInt32 = 46 := by decide
theorem kB_7 : (Int8.ofInt (7)).toInt32 = 7 := by decide
set_option maxHeartbeats 4000000 in
set_option maxRecDepth 100000 in
noncomputable def fn_X5_coldOn_7 (l0 : Option Nat) (l1 : Int32) (k0 : Int32 → cz_H → cz_Z) : Nat → Int32 → Int32 → Int32 → cz_H → cz_Z
  | 0, _, _, _, _ => none
  | n + 1, l2, l3, l4, h => cz_getR h l0 [(5, 6)] (fun r1 => cz_iald h r1 7 (fun x2 => (if x2 ≤ l4 then k0 l3 h else cz_getR h l0 [(5, 6)] (fun r3 => cz_iald h r3 ((46 : Int32) + l4) (fun x4 => (if l1 < x4 then cz_leti (l4 + 1) (fun x5 => fn_X5_coldOn_7 l0 l1 k0 n l2 l3 x5 h) else cz_getR h l0 [(5, 6)] (fun r6 => cz_iald h r6 ((46 : Int32) + l4) (fun x7 => (if l2 ≤ x7 then cz_getR h l0 [(5, 6)] (fun r8 => cz_iald h r8 ((46 : Int32) + l4) (fun x9 => cz_getR h l0 [(5, 6)] (fun r10 => cz_iald h r10 ((54 : Int32) + l4) (fun x11 => cz_leti (l4 + 1) (fun x12 => fn_X5_coldOn_7 l0 l1 k0 n x9 x11 x12 h))))) else cz_leti (l4 + 1) (fun x13 => fn_X5_coldOn_7 l0 l1 k0 n l2 l3 x13 h))))))))))
set_option maxHeartbeats 4000000 in
set_option maxRecDepth 100000 in
theorem wk_X5_coldOn_7 {K : cz_K} {D : cz_D} {h0 : cz_H} {oh : cz_O × cz_H} {l0 : Option Nat} {l1 : Int32} {k0 : Int32 → cz_H → cz_Z} (S : cz_S K D h0 cX5_coldOn 5 "HeldCoatsModel" ((Option.some Jvm.ClassFile.FieldType.int)) "coldOn" ([])) (hk0 : ∀ (e3 : Int32) (h : cz_H), cz_T K D 2 h0 oh 5 (k0 e3 h) h 78 [(3, cz_i e3)] []) : ∀ (n : Nat) (l2 : Int32) (l3 : Int32) (l4 : Int32) (h : cz_H), cz_T K D 2 h0 oh 5 (fn_X5_coldOn_7 l0 l1 k0 n l2 l3 l4 h) h 7 [(0, cz_r l0), (1, cz_i l1), (2, cz_i l2), (3, cz_i l3), (4, cz_i l4)] [] := by
  intro n
  induction n with
  | zero => intros; exact ct_none
  | succ n ih =>
    intro l2 l3 l4 h
    rw [fn_X5_coldOn_7]
    refine ct_iload (k := 4) S dX5_coldOn_7 rfl ?_
    refine ct_aload_n (k := 0) S dX5_coldOn_9 rfl rfl ?_
    refine ct_getR S fw_X5_33 dX5_coldOn_10 (fun r1 => ?_)
    refine ct_bipush (v := 7) S dX5_coldOn_13 kB_7 ?_
    refine ct_iald S dX5_coldOn_15 (fun x2 => ?_)
    refine ct_icmp_ge (tgt := 78) S dX5_coldOn_16 (by decide) ?_ ?_
    · exact ct_sub [3] rfl (hk0 l3 h)
    · refine ct_aload_n (k := 0) S dX5_coldOn_19 rfl rfl ?_
      refine ct_getR S fw_X5_33 dX5_coldOn_20 (fun r3 => ?_)
      refine ct_bipush (v := 46) S dX5_coldOn_23 kB_46 ?_
      refine ct_iload (k := 4) S dX5_coldOn_25 rfl ?_
      refine ct_iadd S dX5_coldOn_27 ?_
      refine ct_iald S dX5_coldOn_28 (fun x4 => ?_)
      refine ct_iload_n (k := 1) S dX5_coldOn_29 rfl rfl ?_
      refine ct_icmp_gt (tgt := 72) S dX5_coldOn_30 (by decide) ?_ ?_
      · refine ct_iincL (j := 4) (L2 := fun x5 => [(4, cz_i x5), (0, cz_r l0), (1, cz_i l1), (2, cz_i l2), (3, cz_i l3)]) S dX5_coldOn_72 rfl kI_1 (by decide) (fun _ => rfl) (fun x5 => ?_)
        refine ct_goto (tgt := 7) S dX5_coldOn_75 (by decide) ?_
        exact ct_sub [1, 2, 3, 4, 0] rfl (ih l2 l3 x5 h)
      · refine ct_aload_n (k := 0) S dX5_coldOn_33 rfl rfl ?_
        refine ct_getR S fw_X5_33 dX5_coldOn_34 (fun r6 => ?_)
        refine ct_bipush (v := 46) S dX5_coldOn_37 kB_46 ?_
        refine ct_iload (k := 4) S dX5_coldOn_39 rfl ?_
        refine ct_iadd S dX5_coldOn_41 ?_
        refine ct_iald S dX5_coldOn_42 (fun x7 => ?_)
        refine ct_iload_n (k := 2) S dX5_coldOn_43 rfl rfl ?_
        refine ct_icmp_ge (tgt := 50) S dX5_coldOn_44 (by decide) ?_ ?_
        · refine ct_aload_n (k := 0) S dX5_coldOn_50 rfl rfl ?_
          refine ct_getR S fw_X5_33 dX5_coldOn_51 (fun r8 => ?_)
          refine ct_bipush (v := 46) S dX5_coldOn_54 kB_46 ?_
          refine ct_iload (k := 4) S dX5_coldOn_56 rfl ?_
          refine ct_iadd S dX5_coldOn_58 ?_
          refine ct_iald S dX5_coldOn_59 (fun x9 => ?_)
          refine ct_istore_n (L' := [(2, cz_i x9), (0, cz_r l0), (1, cz_i l1), (3, cz_i l3), (4, cz_i l4)]) S dX5_coldOn_60 rfl (by decide) rfl ?_
          refine ct_aload_n (k := 1) S dX5_coldOn_61 rfl rfl ?_
          refine ct_getR S fw_X5_33 dX5_coldOn_62 (fun r10 => ?_)
          refine ct_bipush (v := 54) S dX5_coldOn_65 kB_54 ?_
          refine ct_iload (k := 4) S dX5_coldOn_67 rfl ?_
          refine ct_iadd S dX5_coldOn_69 ?_
          refine ct_iald S dX5_coldOn_70 (fun x11 => ?_)
          refine ct_istore_n (L' := [(3, cz_i x11), (2, cz_i x9), (0, cz_r l0), (1, cz_i l1), (4, cz_i l4)]) S dX5_coldOn_71 rfl (by decide) rfl ?_
          refine ct_iincL (j := 4) (L2 := fun x12 => [(4, cz_i x12), (3, cz_i x11), (2, cz_i x9), (0, cz_r l0), (1, cz_i l1)]) S dX5_coldOn_72 rfl kI_1 (by decide) (fun _ => rfl) (fun x12 => ?_)
          refine ct_goto (tgt := 7) S dX5_coldOn_75 (by decide) ?_
          exact ct_sub [3, 4, 2, 1, 0] rfl (ih x9 x11 x12 h)
        · refine ct_goto (tgt := 72) S dX5_coldOn_47 (by decide) ?_
          refine ct_iincL (j := 4) (L2 := fun x13 => [(4, cz_i x13), (0, cz_r l0), (1, cz_i l1), (2, cz_i l2), (3, cz_i l3)]) S dX5_coldOn_72 rfl kI_1 (by decide) (fun _ => rfl) (fun x13 => ?_)
          refine ct_goto (tgt := 7) S dX5_coldOn_75 (by decide) ?_
          exact ct_sub [1, 2, 3, 4, 0] rfl (ih l2 l3 x13 h)
set_option maxHeartbeats 4000000 in
set_option maxRecDepth 100000 in
noncomputable def fn_X5_coldOn (l0 : Option Nat) (l1 : Int32) (h : cz_H) : cz_Z := fn_X5_coldOn_7 l0 l1 (fun (e14 : Int32) (h15 : cz_H) => some (.inl (some (cz_i e14)), h15)) 1000 (-1) 0 0 h
set_option maxHeartbeats 4000000 in
set_option maxRecDepth 100000 in
theorem wk_X5_coldOn {K : cz_K} {D : cz_D} {h0 : cz_H} {oh : cz_O × cz_H} {l0 : Option Nat} {l1 : Int32} {h : cz_H} (S : cz_S K D h0 cX5_coldOn 5 "HeldCoatsModel" ((Option.some Jvm.ClassFile.FieldType.int)) "coldOn" ([])) : cz_T K D 2 h0 oh 5 (fn_X5_coldOn l0 l1 h) h 0 [(0, cz_r l0), (1, cz_i l1)] [] := by
  unfold fn_X5_coldOn
  refine ct_iconst (v := (-1)) S dX5_coldOn_0 kI_m1 ?_
  refine ct_istore_n (L' := [(2, cz_i (-1)), (0, cz_r l0), (1, cz_i l1)]) S dX5_coldOn_1 rfl (by decide) rfl ?_
  refine ct_iconst (v := 0) S dX5_coldOn_2 kI_0 ?_
  refine ct_istore_n (L' := [(3, cz_i 0), (2, cz_i (-1)), (0, cz_r l0), (1, cz_i l1)]) S dX5_coldOn_3 rfl (by decide) rfl ?_
  refine ct_iconst (v := 0) S dX5_coldOn_4 kI_0 ?_
  refine ct_istore (L' := [(4, cz_i 0), (3, cz_i 0), (2, cz_i (-1)), (0, cz_r l0), (1, cz_i l1)]) S dX5_coldOn_5 (by decide) rfl ?_
  refine ct_sub [3, 4, 2, 1, 0] (L' := [(0, cz_r l0), (1, cz_i l1), (2, cz_i (-1)), (3, cz_i 0), (4, cz_i 0)]) rfl (wk_X5_coldOn_7 S ?_ 1000 (-1) 0 0 h)
  · intro e14 h15
    refine ct_iload_n (k := 0) S dX5_coldOn_78 rfl rfl ?_
    exact ct_iret S rfl dX5_coldOn_79
theorem mt_X5_coldOn {l : Launch} {D : cz_D} {l0 : Option Nat} {l1 : Int32} {h : cz_H} {oh : cz_O × cz_H} (hz : fn_X5_coldOn l0 l1 h = some oh) : cz_M l D yX5_coldOn (ws_ yX5_coldOn cX5_coldOn 5 ((Option.some Jvm.ClassFile.FieldType.int))) 2 [cz_r l0, cz_i l1] h oh := cz_met (plainFor_of_name (by decide)) (Nat.le_of_ble_eq_true rfl) hz (fun K hl S => wk_X5_coldOn S)
/-! HeldCoatsModel.greater(II)I -/
def dkwX5_greater_0 : List UInt8 := [26, 27, 164, 0, 7, 26, 167, 0, 4, 27, 172]
abbrev dktX5_greater_0 : List UInt8 := dkwX5_greater_0 ++ []
theorem dksX5_greater_0 : cX5_greater.data.toList.drop 0 = dktX5_greater_0 := by decide +kernel
theorem dX5_greater_0 : decode cX5_greater 0 = .ok (.iload_n 0, 1) := dk_26 (dk_at dksX5_greater_0 0 rfl rfl)
theorem dX5_greater_1 : decode cX5_greater 1 = .ok (.iload_n 1, 1) := dk_27 (dk_at dksX5_greater_0 1 rfl rfl)
theorem dX5_greater_2 : decode cX5_greater 2 = .ok (.if_icmp .le 7, 3) := dk_164 0 7 (dk_at dksX5_greater_0 2 rfl rfl)
theorem dX5_greater_5 : decode cX5_greater 5 = .ok (.iload_n 0, 1) := dk_26 (dk_at dksX5_greater_0 5 rfl rfl)
theorem dX5_greater_6 : decode cX5_greater 6 = .ok (.goto 4, 3) := dk_167 0 4 (dk_at dksX5_greater_0 6 rfl rfl)
theorem dX5_greater_9 : decode cX5_greater 9 = .ok (.iload_n 1, 1) := dk_27 (dk_at dksX5_greater_0 9 rfl rfl)
theorem dX5_greater_10 : decode cX5_greater 10 = .ok (.ireturn, 1) := dk_172 (dk_at dksX5_greater_0 10 rfl rfl)
set_option maxHeartbeats 4000000 in
set_option maxRecDepth 100000 in
noncomputable def fn_X5_greater (l0 : Int32) (l1 : Int32) (h : cz_H) : cz_Z := (if l0 ≤ l1 then some (.inl (some (cz_i l1)), h) else some (.inl (some (cz_i l0)), h))
set_option maxHeartbeats 4000000 in
set_option maxRecDepth 100000 in
theorem wk_X5_greater {K : cz_K} {D : cz_D} {h0 : cz_H} {oh : cz_O × cz_H} {l0 : Int32} {l1 : Int32} {h : cz_H} (S : cz_S K D h0 cX5_greater 2 "HeldCoatsModel" ((Option.some Jvm.ClassFile.FieldType.int)) "greater" ([])) : cz_T K D 2 h0 oh 2 (fn_X5_greater l0 l1 h) h 0 [(0, cz_i l0), (1, cz_i l1)] [] := by
  unfold fn_X5_greater
  refine ct_iload_n (k := 0) S dX5_greater_0 rfl rfl ?_
  refine ct_iload_n (k := 1) S dX5_greater_1 rfl rfl ?_
  refine ct_icmp_le (tgt := 9) S dX5_greater_2 (by decide) ?_ ?_
  · refine ct_iload_n (k := 1) S dX5_greater_9 rfl rfl ?_
    exact ct_iret S rfl dX5_greater_10
  · refine ct_iload_n (k := 0) S dX5_greater_5 rfl rfl ?_
    refine ct_goto (tgt := 10) S dX5_greater_6 (by decide) ?_
    exact ct_iret S rfl dX5_greater_10
theorem mt_X5_greater {l : Launch} {D : cz_D} {l0 : Int32} {l1 : Int32} {h : cz_H} {oh : cz_O × cz_H} (hz : fn_X5_greater l0 l1 h = some oh) : cz_M l D yX5_greater (ws_ yX5_greater cX5_greater 2 ((Option.some Jvm.ClassFile.FieldType.int))) 2 [cz_i l0, cz_i l1] h oh := cz_met (plainFor_of_name (by decide)) (Nat.le_of_ble_eq_true rfl) hz (fun K hl S => wk_X5_greater S)
/-! HeldCoatsModel.bitOf(II)Z -/
def dkwX5_bitOf_0 : List UInt8 := [26, 27, 122, 4, 126, 4, 160, 0, 7, 4, 167, 0, 4, 3, 172]
abbrev dktX5_bitOf_0 : List UInt8 := dkwX5_bitOf_0 ++ []
theorem dksX5_bitOf_0 : cX5_bitOf.data.toList.drop 0 = dktX5_bitOf_0 := by decide +kernel
theorem dX5_bitOf_0 : decode cX5_bitOf 0 = .ok (.iload_n 0, 1) := dk_26 (dk_at dksX5_bitOf_0 0 rfl rfl)
theorem dX5_bitOf_1 : decode cX5_bitOf 1 = .ok (.iload_n 1, 1) := dk_27 (dk_at dksX5_bitOf_0 1 rfl rfl)
theorem dX5_bitOf_2 : decode cX5_bitOf 2 = .ok (.ishr, 1) := dk_122 (dk_at dksX5_bitOf_0 2 rfl rfl)
theorem dX5_bitOf_3 : decode cX5_bitOf 3 = .ok (.iconst 1, 1) := dk_4 (dk_at dksX5_bitOf_0 3 rfl rfl)
theorem dX5_bitOf_4 : decode cX5_bitOf 4 = .ok (.iand, 1) := dk_126 (dk_at dksX5_bitOf_0 4 rfl rfl)
theorem dX5_bitOf_5 : decode cX5_bitOf 5 = .ok (.iconst 1, 1) := dk_4 (dk_at dksX5_bitOf_0 5 rfl rfl)
theorem dX5_bitOf_6 : decode cX5_bitOf 6 = .ok (.if_icmp .ne 7, 3) := dk_160 0 7 (dk_at dksX5_bitOf_0 6 rfl rfl)
theorem dX5_bitOf_9 : decode cX5_bitOf 9 = .ok (.iconst 1, 1) := dk_4 (dk_at dksX5_bitOf_0 9 rfl rfl)
theorem dX5_bitOf_10 : decode cX5_bitOf 10 = .ok (.goto 4, 3) := dk_167 0 4 (dk_at dksX5_bitOf_0 10 rfl rfl)
theorem dX5_bitOf_13 : decode cX5_bitOf 13 = .ok (.iconst 0, 1) := dk_3 (dk_at dksX5_bitOf_0 13 rfl rfl)
theorem dX5_bitOf_14 : decode cX5_bitOf 14 = .ok (.ireturn, 1) := dk_172 (dk_at dksX5_bitOf_0 14 rfl rfl)
set_option maxHeartbeats 4000000 in
set_option maxRecDepth 100000 in
noncomputable def fn_X5_bitOf (l0 : Int32) (l1 : Int32) (h : cz_H) : cz_Z := (if ((l0 >>> (l1 &&& 31)) &&& 1) = 1 then some (.inl (some (cz_i 1)), h) else some (.inl (some (cz_i 0)), h))
set_option maxHeartbeats 4000000 in
set_option maxRecDepth 100000 in
theorem wk_X5_bitOf {K : cz_K} {D : cz_D} {h0 : cz_H} {oh : cz_O × cz_H} {l0 : Int32} {l1 : Int32} {h : cz_H} (S : cz_S K D h0 cX5_bitOf 2 "HeldCoatsModel" ((Option.some Jvm.ClassFile.FieldType.boolean)) "bitOf" ([])) : cz_T K D 2 h0 oh 2 (fn_X5_bitOf l0 l1 h) h 0 [(0, cz_i l0), (1, cz_i l1)] [] := by
  unfold fn_X5_bitOf
  refine ct_iload_n (k := 0) S dX5_bitOf_0 rfl rfl ?_
  refine ct_iload_n (k := 1) S dX5_bitOf_1 rfl rfl ?_
  refine ct_ishr S dX5_bitOf_2 ?_
  refine ct_iconst (v := 1) S dX5_bitOf_3 kI_1 ?_
  refine ct_iand S dX5_bitOf_4 ?_
  refine ct_iconst (v := 1) S dX5_bitOf_5 kI_1 ?_
  refine ct_icmp_ne (tgt := 13) S dX5_bitOf_6 (by decide) ?_ ?_
  · refine ct_iconst (v := 0) S dX5_bitOf_13 kI_0 ?_
    exact ct_zr (ty := .boolean) S rfl rfl dX5_bitOf_14
  · refine ct_iconst (v := 1) S dX5_bitOf_9 kI_1 ?_
    refine ct_goto (tgt := 14) S dX5_bitOf_10 (by decide) ?_
    exact ct_zr (ty := .boolean) S rfl rfl dX5_bitOf_14
theorem mt_X5_bitOf {l : Launch} {D : cz_D} {l0 : Int32} {l1 : Int32} {h : cz_H} {oh : cz_O × cz_H} (hz : fn_X5_bitOf l0 l1 h = some oh) : cz_M l D yX5_bitOf (ws_ yX5_bitOf cX5_bitOf 2 ((Option.some Jvm.ClassFile.FieldType.boolean))) 2 [cz_i l0, cz_i l1] h oh := cz_met (plainFor_of_name (by decide)) (Nat.le_of_ble_eq_true rfl) hz (fun K hl S => wk_X5_bitOf S)
/-! HeldCoatsModel.warmth(I)I -/
def dkwX5_warmth_1 : List UInt8 := [180, 0, 33, 16, 30, 29, 96, 46, 167, 0, 4, 3, 96, 61, 132, 3, 1, 167, 255, 219, 28, 172]
abbrev dktX5_warmth_1 : List UInt8 := dkwX5_warmth_1 ++ []
def dkwX5_warmth_0 : List UInt8 := [3, 61, 3, 62, 29, 42, 180, 0, 33, 5, 46, 162, 0, 33, 28, 27, 29, 184, 0, 196, 153, 0, 15, 42]
abbrev dktX5_warmth_0 : List UInt8 := dkwX5_warmth_0 ++ dktX5_warmth_1
theorem dksX5_warmth_0 : cX5_warmth.data.toList.drop 0 = dktX5_warmth_0 := by decide +kernel
theorem dksX5_warmth_1 : cX5_warmth.data.toList.drop 24 = dktX5_warmth_1 := dk_seg dksX5_warmth_0 24 rfl rfl
theorem dX5_warmth_0 : decode cX5_warmth 0 = .ok (.iconst 0, 1) := dk_3 (dk_at dksX5_warmth_0 0 rfl rfl)
theorem dX5_warmth_1 : decode cX5_warmth 1 = .ok (.istore_n 2, 1) := dk_61 (dk_at dksX5_warmth_0 1 rfl rfl)
theorem dX5_warmth_2 : decode cX5_warmth 2 = .ok (.iconst 0, 1) := dk_3 (dk_at dksX5_warmth_0 2 rfl rfl)
theorem dX5_warmth_3 : decode cX5_warmth 3 = .ok (.istore_n 3, 1) := dk_62 (dk_at dksX5_warmth_0 3 rfl rfl)
theorem dX5_warmth_4 : decode cX5_warmth 4 = .ok (.iload_n 3, 1) := dk_29 (dk_at dksX5_warmth_0 4 rfl rfl)
theorem dX5_warmth_5 : decode cX5_warmth 5 = .ok (.aload_n 0, 1) := dk_42 (dk_at dksX5_warmth_0 5 rfl rfl)
theorem dX5_warmth_6 : decode cX5_warmth 6 = .ok (.getfield 33, 3) := dk_180 0 33 (dk_at dksX5_warmth_0 6 rfl rfl)
theorem dX5_warmth_9 : decode cX5_warmth 9 = .ok (.iconst 2, 1) := dk_5 (dk_at dksX5_warmth_0 9 rfl rfl)
theorem dX5_warmth_10 : decode cX5_warmth 10 = .ok (.iaload, 1) := dk_46 (dk_at dksX5_warmth_0 10 rfl rfl)
theorem dX5_warmth_11 : decode cX5_warmth 11 = .ok (.if_icmp .ge 33, 3) := dk_162 0 33 (dk_at dksX5_warmth_0 11 rfl rfl)
theorem dX5_warmth_14 : decode cX5_warmth 14 = .ok (.iload_n 2, 1) := dk_28 (dk_at dksX5_warmth_0 14 rfl rfl)
theorem dX5_warmth_15 : decode cX5_warmth 15 = .ok (.iload_n 1, 1) := dk_27 (dk_at dksX5_warmth_0 15 rfl rfl)
theorem dX5_warmth_16 : decode cX5_warmth 16 = .ok (.iload_n 3, 1) := dk_29 (dk_at dksX5_warmth_0 16 rfl rfl)
theorem dX5_warmth_17 : decode cX5_warmth 17 = .ok (.invokestatic 196, 3) := dk_184 0 196 (dk_at dksX5_warmth_0 17 rfl rfl)
theorem dX5_warmth_20 : decode cX5_warmth 20 = .ok (.ifCond .eq 15, 3) := dk_153 0 15 (dk_at dksX5_warmth_0 20 rfl rfl)
theorem dX5_warmth_23 : decode cX5_warmth 23 = .ok (.aload_n 0, 1) := dk_42 (dk_at dksX5_warmth_0 23 rfl rfl)
theorem dX5_warmth_24 : decode cX5_warmth 24 = .ok (.getfield 33, 3) := dk_180 0 33 (dk_at dksX5_warmth_1 0 rfl rfl)
theorem dX5_warmth_27 : decode cX5_warmth 27 = .ok (.bipush 30, 2) := dk_16 30 (dk_at dksX5_warmth_1 3 rfl rfl)
theorem dX5_warmth_29 : decode cX5_warmth 29 = .ok (.iload_n 3, 1) := dk_29 (dk_at dksX5_warmth_1 5 rfl rfl)
theorem dX5_warmth_30 : decode cX5_warmth 30 = .ok (.iadd, 1) := dk_96 (dk_at dksX5_warmth_1 6 rfl rfl)
theorem dX5_warmth_31 : decode cX5_warmth 31 = .ok (.iaload, 1) := dk_46 (dk_at dksX5_warmth_1 7 rfl rfl)
theorem dX5_warmth_32 : decode cX5_warmth 32 = .ok (.goto 4, 3) := dk_167 0 4 (dk_at dksX5_warmth_1 8 rfl rfl)
theorem dX5_warmth_35 : decode cX5_warmth 35 = .ok (.iconst 0, 1) := dk_3 (dk_at dksX5_warmth_1 11 rfl rfl)
theorem dX5_warmth_36 : decode cX5_warmth 36 = .ok (.iadd, 1) := dk_96 (dk_at dksX5_warmth_1 12 rfl rfl)
theorem dX5_warmth_37 : decode cX5_warmth 37 = .ok (.istore_n 2, 1) := dk_61 (dk_at dksX5_warmth_1 13 rfl rfl)
theorem dX5_warmth_38 : decode cX5_warmth 38 = .ok (.iinc 3 1, 3) := dk_132 3 1 (dk_at dksX5_warmth_1 14 rfl rfl)
theorem dX5_warmth_41 : decode cX5_warmth 41 = .ok (.goto (-37), 3) := dk_167 255 219 (dk_at dksX5_warmth_1 17 rfl rfl)
theorem dX5_warmth_44 : decode cX5_warmth 44 = .ok (.iload_n 2, 1) := dk_28 (dk_at dksX5_warmth_1 20 rfl rfl)
theorem dX5_warmth_45 : decode cX5_warmth 45 = .ok (.ireturn, 1) := dk_172 (dk_at dksX5_warmth_1 21 rfl rfl)
theorem md_X5_bitOf : cz_md yX5_bitOf 2 (ws_ yX5_bitOf cX5_bitOf 2 ((Option.some Jvm.ClassFile.FieldType.boolean))) 2 := ⟨cz_ws_code q2143, q123, ⟨by decide, by decide, by decide +kernel⟩, by decide⟩
theorem kB_30 : (Int8.ofInt (30)).toInt32 = 30 := by decide
set_option maxHeartbeats 4000000 in
set_option maxRecDepth 100000 in
noncomputable def fn_X5_warmth_4 (l0 : Option Nat) (l1 : Int32) (k0 : Int32 → cz_H → cz_Z) : Nat → Int32 → Int32 → cz_H → cz_Z
  | 0, _, _, _ => none
  | n + 1, l2, l3, h => cz_getR h l0 [(5, 6)] (fun r1 => cz_iald h r1 2 (fun x2 => (if x2 ≤ l3 then k0 l2 h else cz_cI (fn_X5_bitOf l1 l3 h) (fun x4 h3 => (if x4 = 0 then cz_leti (l2 + 0) (fun x5 => cz_leti (l3 + 1) (fun x6 => fn_X5_warmth_4 l0 l1 k0 n x5 x6 h3)) else cz_getR h3 l0 [(5, 6)] (fun r7 => cz_iald h3 r7 ((30 : Int32) + l3) (fun x8 => cz_leti (l2 + x8) (fun x9 => cz_leti (l3 + 1) (fun x10 => fn_X5_warmth_4 l0 l1 k0 n x9 x10 h3)))))))))
set_option maxHeartbeats 4000000 in
set_option maxRecDepth 100000 in
theorem wk_X5_warmth_4 {K : cz_K} {D : cz_D} {h0 : cz_H} {oh : cz_O × cz_H} {l0 : Option Nat} {l1 : Int32} {k0 : Int32 → cz_H → cz_Z} (S : cz_S K D h0 cX5_warmth 4 "HeldCoatsModel" ((Option.some Jvm.ClassFile.FieldType.int)) "warmth" ([])) (hk0 : ∀ (e2 : Int32) (h : cz_H), cz_T K D 3 h0 oh 4 (k0 e2 h) h 44 [(2, cz_i e2)] []) : ∀ (n : Nat) (l2 : Int32) (l3 : Int32) (h : cz_H), cz_T K D 3 h0 oh 4 (fn_X5_warmth_4 l0 l1 k0 n l2 l3 h) h 4 [(0, cz_r l0), (1, cz_i l1), (2, cz_i l2), (3, cz_i l3)] [] := by
  intro n
  induction n with
  | zero => intros; exact ct_none
  | succ n ih =>
    intro l2 l3 h
    rw [fn_X5_warmth_4]
    refine ct_iload_n (k := 3) S dX5_warmth_4 rfl rfl ?_
    refine ct_aload_n (k := 0) S dX5_warmth_5 rfl rfl ?_
    refine ct_getR S fw_X5_33 dX5_warmth_6 (fun r1 => ?_)
    refine ct_iconst (v := 2) S dX5_warmth_9 kI_2 ?_
    refine ct_iald S dX5_warmth_10 (fun x2 => ?_)
    refine ct_icmp_ge (tgt := 44) S dX5_warmth_11 (by decide) ?_ ?_
    · exact ct_sub [2] rfl (hk0 l2 h)
    · refine ct_iload_n (k := 2) S dX5_warmth_14 rfl rfl ?_
      refine ct_iload_n (k := 1) S dX5_warmth_15 rfl rfl ?_
      refine ct_iload_n (k := 3) S dX5_warmth_16 rfl rfl ?_
      refine ct_cI (st := [cz_i l2]) (cg_static (av := [cz_i l1, cz_i l3]) S (fun _ e => mt_X5_bitOf e) md_X5_bitOf (Or.inl q2141) q2142 (by decide) (Nat.le_of_ble_eq_true rfl) rfl dX5_warmth_17) (fun x4 h3 => ?_)
      refine ct_if_eq (tgt := 35) S dX5_warmth_20 (by decide) ?_ ?_
      · refine ct_iconst (v := 0) S dX5_warmth_35 kI_0 ?_
        refine ct_iadd S dX5_warmth_36 ?_
        refine ct_leti (fun x5 => ?_)
        refine ct_istore_n (L' := [(2, cz_i x5), (0, cz_r l0), (1, cz_i l1), (3, cz_i l3)]) S dX5_warmth_37 rfl (by decide) rfl ?_
        refine ct_iincL (j := 3) (L2 := fun x6 => [(3, cz_i x6), (2, cz_i x5), (0, cz_r l0), (1, cz_i l1)]) S dX5_warmth_38 rfl kI_1 (by decide) (fun _ => rfl) (fun x6 => ?_)
        refine ct_goto (tgt := 4) S dX5_warmth_41 (by decide) ?_
        exact ct_sub [2, 3, 1, 0] rfl (ih x5 x6 h3)
      · refine ct_aload_n (k := 0) S dX5_warmth_23 rfl rfl ?_
        refine ct_getR S fw_X5_33 dX5_warmth_24 (fun r7 => ?_)
        refine ct_bipush (v := 30) S dX5_warmth_27 kB_30 ?_
        refine ct_iload_n (k := 3) S dX5_warmth_29 rfl rfl ?_
        refine ct_iadd S dX5_warmth_30 ?_
        refine ct_iald S dX5_warmth_31 (fun x8 => ?_)
        refine ct_goto (tgt := 36) S dX5_warmth_32 (by decide) ?_
        refine ct_iadd S dX5_warmth_36 ?_
        refine ct_leti (fun x9 => ?_)
        refine ct_istore_n (L' := [(2, cz_i x9), (0, cz_r l0), (1, cz_i l1), (3, cz_i l3)]) S dX5_warmth_37 rfl (by decide) rfl ?_
        refine ct_iincL (j := 3) (L2 := fun x10 => [(3, cz_i x10), (2, cz_i x9), (0, cz_r l0), (1, cz_i l1)]) S dX5_warmth_38 rfl kI_1 (by decide) (fun _ => rfl) (fun x10 => ?_)
        refine ct_goto (tgt := 4) S dX5_warmth_41 (by decide) ?_
        exact ct_sub [2, 3, 1, 0] rfl (ih x9 x10 h3)
set_option maxHeartbeats 4000000 in
set_option maxRecDepth 100000 in
noncomputable def fn_X5_warmth (l0 : Option Nat) (l1 : Int32) (h : cz_H) : cz_Z := fn_X5_warmth_4 l0 l1 (fun (e11 : Int32) (h12 : cz_H) => some (.inl (some (cz_i e11)), h12)) 1000 0 0 h
set_option maxHeartbeats 4000000 in
set_option maxRecDepth 100000 in
theorem wk_X5_warmth {K : cz_K} {D : cz_D} {h0 : cz_H} {oh : cz_O × cz_H} {l0 : Option Nat} {l1 : Int32} {h : cz_H} (S : cz_S K D h0 cX5_warmth 4 "HeldCoatsModel" ((Option.some Jvm.ClassFile.FieldType.int)) "warmth" ([])) : cz_T K D 3 h0 oh 4 (fn_X5_warmth l0 l1 h) h 0 [(0, cz_r l0), (1, cz_i l1)] [] := by
  unfold fn_X5_warmth
  refine ct_iconst (v := 0) S dX5_warmth_0 kI_0 ?_
  refine ct_istore_n (L' := [(2, cz_i 0), (0, cz_r l0), (1, cz_i l1)]) S dX5_warmth_1 rfl (by decide) rfl ?_
  refine ct_iconst (v := 0) S dX5_warmth_2 kI_0 ?_
  refine ct_istore_n (L' := [(3, cz_i 0), (2, cz_i 0), (0, cz_r l0), (1, cz_i l1)]) S dX5_warmth_3 rfl (by decide) rfl ?_
  refine ct_sub [2, 3, 1, 0] (L' := [(0, cz_r l0), (1, cz_i l1), (2, cz_i 0), (3, cz_i 0)]) rfl (wk_X5_warmth_4 S ?_ 1000 0 0 h)
  · intro e11 h12
    refine ct_iload_n (k := 0) S dX5_warmth_44 rfl rfl ?_
    exact ct_iret S rfl dX5_warmth_45
theorem mt_X5_warmth {l : Launch} {D : cz_D} {l0 : Option Nat} {l1 : Int32} {h : cz_H} {oh : cz_O × cz_H} (hz : fn_X5_warmth l0 l1 h = some oh) : cz_M l D yX5_warmth (ws_ yX5_warmth cX5_warmth 4 ((Option.some Jvm.ClassFile.FieldType.int))) 3 [cz_r l0, cz_i l1] h oh := cz_met (plainFor_of_name (by decide)) (Nat.le_of_ble_eq_true rfl) hz (fun K hl S => wk_X5_warmth S)
/-! HeldCoatsModel.chillIn(III)I -/
def dkwX5_chillIn_1 : List UInt8 := [184, 0, 250, 172]
abbrev dktX5_chillIn_1 : List UInt8 := dkwX5_chillIn_1 ++ []
def dkwX5_chillIn_0 : List UInt8 := [3, 42, 28, 182, 0, 234, 42, 180, 0, 33, 16, 16, 27, 96, 46, 100, 42, 29, 182, 0, 247, 100]
abbrev dktX5_chillIn_0 : List UInt8 := dkwX5_chillIn_0 ++ dktX5_chillIn_1
theorem dksX5_chillIn_0 : cX5_chillIn.data.toList.drop 0 = dktX5_chillIn_0 := by decide +kernel
theorem dksX5_chillIn_1 : cX5_chillIn.data.toList.drop 22 = dktX5_chillIn_1 := dk_seg dksX5_chillIn_0 22 rfl rfl
theorem dX5_chillIn_0 : decode cX5_chillIn 0 = .ok (.iconst 0, 1) := dk_3 (dk_at dksX5_chillIn_0 0 rfl rfl)
theorem dX5_chillIn_1 : decode cX5_chillIn 1 = .ok (.aload_n 0, 1) := dk_42 (dk_at dksX5_chillIn_0 1 rfl rfl)
theorem dX5_chillIn_2 : decode cX5_chillIn 2 = .ok (.iload_n 2, 1) := dk_28 (dk_at dksX5_chillIn_0 2 rfl rfl)
theorem dX5_chillIn_3 : decode cX5_chillIn 3 = .ok (.invokevirtual 234, 3) := dk_182 0 234 (dk_at dksX5_chillIn_0 3 rfl rfl)
theorem dX5_chillIn_6 : decode cX5_chillIn 6 = .ok (.aload_n 0, 1) := dk_42 (dk_at dksX5_chillIn_0 6 rfl rfl)
theorem dX5_chillIn_7 : decode cX5_chillIn 7 = .ok (.getfield 33, 3) := dk_180 0 33 (dk_at dksX5_chillIn_0 7 rfl rfl)
theorem dX5_chillIn_10 : decode cX5_chillIn 10 = .ok (.bipush 16, 2) := dk_16 16 (dk_at dksX5_chillIn_0 10 rfl rfl)
theorem dX5_chillIn_12 : decode cX5_chillIn 12 = .ok (.iload_n 1, 1) := dk_27 (dk_at dksX5_chillIn_0 12 rfl rfl)
theorem dX5_chillIn_13 : decode cX5_chillIn 13 = .ok (.iadd, 1) := dk_96 (dk_at dksX5_chillIn_0 13 rfl rfl)
theorem dX5_chillIn_14 : decode cX5_chillIn 14 = .ok (.iaload, 1) := dk_46 (dk_at dksX5_chillIn_0 14 rfl rfl)
theorem dX5_chillIn_15 : decode cX5_chillIn 15 = .ok (.isub, 1) := dk_100 (dk_at dksX5_chillIn_0 15 rfl rfl)
theorem dX5_chillIn_16 : decode cX5_chillIn 16 = .ok (.aload_n 0, 1) := dk_42 (dk_at dksX5_chillIn_0 16 rfl rfl)
theorem dX5_chillIn_17 : decode cX5_chillIn 17 = .ok (.iload_n 3, 1) := dk_29 (dk_at dksX5_chillIn_0 17 rfl rfl)
theorem dX5_chillIn_18 : decode cX5_chillIn 18 = .ok (.invokevirtual 247, 3) := dk_182 0 247 (dk_at dksX5_chillIn_0 18 rfl rfl)
theorem dX5_chillIn_21 : decode cX5_chillIn 21 = .ok (.isub, 1) := dk_100 (dk_at dksX5_chillIn_0 21 rfl rfl)
theorem dX5_chillIn_22 : decode cX5_chillIn 22 = .ok (.invokestatic 250, 3) := dk_184 0 250 (dk_at dksX5_chillIn_1 0 rfl rfl)
theorem dX5_chillIn_25 : decode cX5_chillIn 25 = .ok (.ireturn, 1) := dk_172 (dk_at dksX5_chillIn_1 3 rfl rfl)
theorem se_HeldCoatsModel_coldOn__I_I_HeldCoatsModel : ∀ c ∈ ([5] : List Nat), ∃ q : vw_C, cz_cl[c]? = some q ∧ Cond.selects q.1 (⟨"HeldCoatsModel", "coldOn", "(I)I"⟩ : MethodName) (⟨"HeldCoatsModel", "coldOn", "(I)I"⟩ : MethodName) ∈ lw_all := List.forall_mem_cons.mpr ⟨⟨_, cz_cl5, qs67⟩, fun _ h => absurd h List.not_mem_nil⟩
theorem md_X5_coldOn : cz_md yX5_coldOn 5 (ws_ yX5_coldOn cX5_coldOn 5 ((Option.some Jvm.ClassFile.FieldType.int))) 1 := ⟨cz_ws_code q2179, q123, ⟨by decide, by decide, by decide +kernel⟩, by decide⟩
theorem se_HeldCoatsModel_warmth__I_I_HeldCoatsModel : ∀ c ∈ ([5] : List Nat), ∃ q : vw_C, cz_cl[c]? = some q ∧ Cond.selects q.1 (⟨"HeldCoatsModel", "warmth", "(I)I"⟩ : MethodName) (⟨"HeldCoatsModel", "warmth", "(I)I"⟩ : MethodName) ∈ lw_all := List.forall_mem_cons.mpr ⟨⟨_, cz_cl5, qs74⟩, fun _ h => absurd h List.not_mem_nil⟩
theorem md_X5_warmth : cz_md yX5_warmth 4 (ws_ yX5_warmth cX5_warmth 4 ((Option.some Jvm.ClassFile.FieldType.int))) 1 := ⟨cz_ws_code q2211, q123, ⟨by decide, by decide, by decide +kernel⟩, by decide⟩
theorem md_X5_greater : cz_md yX5_greater 2 (ws_ yX5_greater cX5_greater 2 ((Option.some Jvm.ClassFile.FieldType.int))) 2 := ⟨cz_ws_code q2214, q123, ⟨by decide, by decide, by decide +kernel⟩, by decide⟩
theorem kB_16 : (Int8.ofInt (16)).toInt32 = 16 := by decide
set_option maxHeartbeats 4000000 in
set_option maxRecDepth 100000 in
noncomputable def fn_X5_chillIn (l0 : Option Nat) (l1 : Int32) (l2 : Int32) (l3 : Int32) (h : cz_H) : cz_Z := cz_rc h l0 [5] (cz_cI (fn_X5_coldOn l0 l2 h) (fun x8 h7 => cz_getR h7 l0 [(5, 6)] (fun r9 => cz_iald h7 r9 ((16 : Int32) + l1) (fun x10 => cz_rc h7 l0 [5] (cz_cI (fn_X5_warmth l0 l3 h7) (fun x18 h17 => cz_cI (fn_X5_greater 0 ((x8 - x10) - x18) h17) (fun x20 h19 => some (.inl (some (cz_i x20)), h19))))))))
set_option maxHeartbeats 4000000 in
set_option maxRecDepth 100000 in
theorem wk_X5_chillIn {K : cz_K} {D : cz_D} {h0 : cz_H} {oh : cz_O × cz_H} {l0 : Option Nat} {l1 : Int32} {l2 : Int32} {l3 : Int32} {h : cz_H} (S : cz_S K D h0 cX5_chillIn 4 "HeldCoatsModel" ((Option.some Jvm.ClassFile.FieldType.int)) "chillIn" ([])) : cz_T K D 4 h0 oh 4 (fn_X5_chillIn l0 l1 l2 l3 h) h 0 [(0, cz_r l0), (1, cz_i l1), (2, cz_i l2), (3, cz_i l3)] [] := by
  unfold fn_X5_chillIn
  refine ct_iconst (v := 0) S dX5_chillIn_0 kI_0 ?_
  refine ct_aload_n (k := 0) S dX5_chillIn_1 rfl rfl ?_
  refine ct_iload_n (k := 2) S dX5_chillIn_2 rfl rfl ?_
  refine ct_rc (fun b1 ci2 V3 hb4 hc5 hi6 => ?_)
  refine ct_cI (st := [cz_i 0]) (cg_virtual (av := [cz_i l2]) S hb4 hc5 hi6 (fun _ e => mt_X5_coldOn e) md_X5_coldOn q2176 q2178 se_HeldCoatsModel_coldOn__I_I_HeldCoatsModel (by decide) (Nat.le_of_ble_eq_true rfl) rfl dX5_chillIn_3) (fun x8 h7 => ?_)
  refine ct_aload_n (k := 0) S dX5_chillIn_6 rfl rfl ?_
  refine ct_getR S fw_X5_33 dX5_chillIn_7 (fun r9 => ?_)
  refine ct_bipush (v := 16) S dX5_chillIn_10 kB_16 ?_
  refine ct_iload_n (k := 1) S dX5_chillIn_12 rfl rfl ?_
  refine ct_iadd S dX5_chillIn_13 ?_
  refine ct_iald S dX5_chillIn_14 (fun x10 => ?_)
  refine ct_isub S dX5_chillIn_15 ?_
  refine ct_aload_n (k := 0) S dX5_chillIn_16 rfl rfl ?_
  refine ct_iload_n (k := 3) S dX5_chillIn_17 rfl rfl ?_
  refine ct_rc (fun b11 ci12 V13 hb14 hc15 hi16 => ?_)
  refine ct_cI (st := [cz_i (x8 - x10), cz_i 0]) (cg_virtual (av := [cz_i l3]) S hb14 hc15 hi16 (fun _ e => mt_X5_warmth e) md_X5_warmth q2208 q2210 se_HeldCoatsModel_warmth__I_I_HeldCoatsModel (by decide) (Nat.le_of_ble_eq_true rfl) rfl dX5_chillIn_18) (fun x18 h17 => ?_)
  refine ct_isub S dX5_chillIn_21 ?_
  refine ct_cI (st := []) (cg_static (av := [cz_i 0, cz_i ((x8 - x10) - x18)]) S (fun _ e => mt_X5_greater e) md_X5_greater (Or.inl q2212) q2213 (by decide) (Nat.le_of_ble_eq_true rfl) rfl dX5_chillIn_22) (fun x20 h19 => ?_)
  exact ct_iret S rfl dX5_chillIn_25
theorem mt_X5_chillIn {l : Launch} {D : cz_D} {l0 : Option Nat} {l1 : Int32} {l2 : Int32} {l3 : Int32} {h : cz_H} {oh : cz_O × cz_H} (hz : fn_X5_chillIn l0 l1 l2 l3 h = some oh) : cz_M l D yX5_chillIn (ws_ yX5_chillIn cX5_chillIn 4 ((Option.some Jvm.ClassFile.FieldType.int))) 4 [cz_r l0, cz_i l1, cz_i l2, cz_i l3] h oh := cz_met (plainFor_of_name (by decide)) (Nat.le_of_ble_eq_true rfl) hz (fun K hl S => wk_X5_chillIn S)
/-! HeldCoatsModel.coatsAt(I)I -/
def dkwX5_coatsAt_1 : List UInt8 := [27, 160, 0, 9, 4, 29, 120, 167, 0, 4, 3, 128, 61, 132, 3, 1, 167, 255, 220, 28, 172]
abbrev dktX5_coatsAt_1 : List UInt8 := dkwX5_coatsAt_1 ++ []
def dkwX5_coatsAt_0 : List UInt8 := [3, 61, 3, 62, 29, 42, 180, 0, 33, 5, 46, 162, 0, 32, 28, 42, 180, 0, 33, 16, 65, 29, 96, 46]
abbrev dktX5_coatsAt_0 : List UInt8 := dkwX5_coatsAt_0 ++ dktX5_coatsAt_1
theorem dksX5_coatsAt_0 : cX5_coatsAt.data.toList.drop 0 = dktX5_coatsAt_0 := by decide +kernel
theorem dksX5_coatsAt_1 : cX5_coatsAt.data.toList.drop 24 = dktX5_coatsAt_1 := dk_seg dksX5_coatsAt_0 24 rfl rfl
theorem dX5_coatsAt_0 : decode cX5_coatsAt 0 = .ok (.iconst 0, 1) := dk_3 (dk_at dksX5_coatsAt_0 0 rfl rfl)
theorem dX5_coatsAt_1 : decode cX5_coatsAt 1 = .ok (.istore_n 2, 1) := dk_61 (dk_at dksX5_coatsAt_0 1 rfl rfl)
theorem dX5_coatsAt_2 : decode cX5_coatsAt 2 = .ok (.iconst 0, 1) := dk_3 (dk_at dksX5_coatsAt_0 2 rfl rfl)
theorem dX5_coatsAt_3 : decode cX5_coatsAt 3 = .ok (.istore_n 3, 1) := dk_62 (dk_at dksX5_coatsAt_0 3 rfl rfl)
theorem dX5_coatsAt_4 : decode cX5_coatsAt 4 = .ok (.iload_n 3, 1) := dk_29 (dk_at dksX5_coatsAt_0 4 rfl rfl)
theorem dX5_coatsAt_5 : decode cX5_coatsAt 5 = .ok (.aload_n 0, 1) := dk_42 (dk_at dksX5_coatsAt_0 5 rfl rfl)
theorem dX5_coatsAt_6 : decode cX5_coatsAt 6 = .ok (.getfield 33, 3) := dk_180 0 33 (dk_at dksX5_coatsAt_0 6 rfl rfl)
theorem dX5_coatsAt_9 : decode cX5_coatsAt 9 = .ok (.iconst 2, 1) := dk_5 (dk_at dksX5_coatsAt_0 9 rfl rfl)
theorem dX5_coatsAt_10 : decode cX5_coatsAt 10 = .ok (.iaload, 1) := dk_46 (dk_at dksX5_coatsAt_0 10 rfl rfl)
theorem dX5_coatsAt_11 : decode cX5_coatsAt 11 = .ok (.if_icmp .ge 32, 3) := dk_162 0 32 (dk_at dksX5_coatsAt_0 11 rfl rfl)
theorem dX5_coatsAt_14 : decode cX5_coatsAt 14 = .ok (.iload_n 2, 1) := dk_28 (dk_at dksX5_coatsAt_0 14 rfl rfl)
theorem dX5_coatsAt_15 : decode cX5_coatsAt 15 = .ok (.aload_n 0, 1) := dk_42 (dk_at dksX5_coatsAt_0 15 rfl rfl)
theorem dX5_coatsAt_16 : decode cX5_coatsAt 16 = .ok (.getfield 33, 3) := dk_180 0 33 (dk_at dksX5_coatsAt_0 16 rfl rfl)
theorem dX5_coatsAt_19 : decode cX5_coatsAt 19 = .ok (.bipush 65, 2) := dk_16 65 (dk_at dksX5_coatsAt_0 19 rfl rfl)
theorem dX5_coatsAt_21 : decode cX5_coatsAt 21 = .ok (.iload_n 3, 1) := dk_29 (dk_at dksX5_coatsAt_0 21 rfl rfl)
theorem dX5_coatsAt_22 : decode cX5_coatsAt 22 = .ok (.iadd, 1) := dk_96 (dk_at dksX5_coatsAt_0 22 rfl rfl)
theorem dX5_coatsAt_23 : decode cX5_coatsAt 23 = .ok (.iaload, 1) := dk_46 (dk_at dksX5_coatsAt_0 23 rfl rfl)
theorem dX5_coatsAt_24 : decode cX5_coatsAt 24 = .ok (.iload_n 1, 1) := dk_27 (dk_at dksX5_coatsAt_1 0 rfl rfl)
theorem dX5_coatsAt_25 : decode cX5_coatsAt 25 = .ok (.if_icmp .ne 9, 3) := dk_160 0 9 (dk_at dksX5_coatsAt_1 1 rfl rfl)
theorem dX5_coatsAt_28 : decode cX5_coatsAt 28 = .ok (.iconst 1, 1) := dk_4 (dk_at dksX5_coatsAt_1 4 rfl rfl)
theorem dX5_coatsAt_29 : decode cX5_coatsAt 29 = .ok (.iload_n 3, 1) := dk_29 (dk_at dksX5_coatsAt_1 5 rfl rfl)
theorem dX5_coatsAt_30 : decode cX5_coatsAt 30 = .ok (.ishl, 1) := dk_120 (dk_at dksX5_coatsAt_1 6 rfl rfl)
theorem dX5_coatsAt_31 : decode cX5_coatsAt 31 = .ok (.goto 4, 3) := dk_167 0 4 (dk_at dksX5_coatsAt_1 7 rfl rfl)
theorem dX5_coatsAt_34 : decode cX5_coatsAt 34 = .ok (.iconst 0, 1) := dk_3 (dk_at dksX5_coatsAt_1 10 rfl rfl)
theorem dX5_coatsAt_35 : decode cX5_coatsAt 35 = .ok (.ior, 1) := dk_128 (dk_at dksX5_coatsAt_1 11 rfl rfl)
theorem dX5_coatsAt_36 : decode cX5_coatsAt 36 = .ok (.istore_n 2, 1) := dk_61 (dk_at dksX5_coatsAt_1 12 rfl rfl)
theorem dX5_coatsAt_37 : decode cX5_coatsAt 37 = .ok (.iinc 3 1, 3) := dk_132 3 1 (dk_at dksX5_coatsAt_1 13 rfl rfl)
theorem dX5_coatsAt_40 : decode cX5_coatsAt 40 = .ok (.goto (-36), 3) := dk_167 255 220 (dk_at dksX5_coatsAt_1 16 rfl rfl)
theorem dX5_coatsAt_43 : decode cX5_coatsAt 43 = .ok (.iload_n 2, 1) := dk_28 (dk_at dksX5_coatsAt_1 19 rfl rfl)
theorem dX5_coatsAt_44 : decode cX5_coatsAt 44 = .ok (.ireturn, 1) := dk_172 (dk_at dksX5_coatsAt_1 20 rfl rfl)
theorem kB_65 : (Int8.ofInt (65)).toInt32 = 65 := by decide
set_option maxHeartbeats 4000000 in
set_option maxRecDepth 100000 in
noncomputable def fn_X5_coatsAt_4 (l0 : Option Nat) (l1 : Int32) (k0 : Int32 → cz_H → cz_Z) : Nat → Int32 → Int32 → cz_H → cz_Z
  | 0, _, _, _ => none
  | n + 1, l2, l3, h => cz_getR h l0 [(5, 6)] (fun r1 => cz_iald h r1 2 (fun x2 => (if x2 ≤ l3 then k0 l2 h else cz_getR h l0 [(5, 6)] (fun r3 => cz_iald h r3 ((65 : Int32) + l3) (fun x4 => (if x4 = l1 then cz_leti (l2 ||| ((1 : Int32) <<< (l3 &&& 31))) (fun x7 => cz_leti (l3 + 1) (fun x8 => fn_X5_coatsAt_4 l0 l1 k0 n x7 x8 h)) else cz_leti (l2 ||| 0) (fun x5 => cz_leti (l3 + 1) (fun x6 => fn_X5_coatsAt_4 l0 l1 k0 n x5 x6 h))))))))
set_option maxHeartbeats 4000000 in
set_option maxRecDepth 100000 in
theorem wk_X5_coatsAt_4 {K : cz_K} {D : cz_D} {h0 : cz_H} {oh : cz_O × cz_H} {l0 : Option Nat} {l1 : Int32} {k0 : Int32 → cz_H → cz_Z} (S : cz_S K D h0 cX5_coatsAt 4 "HeldCoatsModel" ((Option.some Jvm.ClassFile.FieldType.int)) "coatsAt" ([])) (hk0 : ∀ (e2 : Int32) (h : cz_H), cz_T K D 2 h0 oh 4 (k0 e2 h) h 43 [(2, cz_i e2)] []) : ∀ (n : Nat) (l2 : Int32) (l3 : Int32) (h : cz_H), cz_T K D 2 h0 oh 4 (fn_X5_coatsAt_4 l0 l1 k0 n l2 l3 h) h 4 [(0, cz_r l0), (1, cz_i l1), (2, cz_i l2), (3, cz_i l3)] [] := by
  intro n
  induction n with
  | zero => intros; exact ct_none
  | succ n ih =>
    intro l2 l3 h
    rw [fn_X5_coatsAt_4]
    refine ct_iload_n (k := 3) S dX5_coatsAt_4 rfl rfl ?_
    refine ct_aload_n (k := 0) S dX5_coatsAt_5 rfl rfl ?_
    refine ct_getR S fw_X5_33 dX5_coatsAt_6 (fun r1 => ?_)
    refine ct_iconst (v := 2) S dX5_coatsAt_9 kI_2 ?_
    refine ct_iald S dX5_coatsAt_10 (fun x2 => ?_)
    refine ct_icmp_ge (tgt := 43) S dX5_coatsAt_11 (by decide) ?_ ?_
    · exact ct_sub [2] rfl (hk0 l2 h)
    · refine ct_iload_n (k := 2) S dX5_coatsAt_14 rfl rfl ?_
      refine ct_aload_n (k := 0) S dX5_coatsAt_15 rfl rfl ?_
      refine ct_getR S fw_X5_33 dX5_coatsAt_16 (fun r3 => ?_)
      refine ct_bipush (v := 65) S dX5_coatsAt_19 kB_65 ?_
      refine ct_iload_n (k := 3) S dX5_coatsAt_21 rfl rfl ?_
      refine ct_iadd S dX5_coatsAt_22 ?_
      refine ct_iald S dX5_coatsAt_23 (fun x4 => ?_)
      refine ct_iload_n (k := 1) S dX5_coatsAt_24 rfl rfl ?_
      refine ct_icmp_ne (tgt := 34) S dX5_coatsAt_25 (by decide) ?_ ?_
      · refine ct_iconst (v := 0) S dX5_coatsAt_34 kI_0 ?_
        refine ct_ior S dX5_coatsAt_35 ?_
        refine ct_leti (fun x5 => ?_)
        refine ct_istore_n (L' := [(2, cz_i x5), (0, cz_r l0), (1, cz_i l1), (3, cz_i l3)]) S dX5_coatsAt_36 rfl (by decide) rfl ?_
        refine ct_iincL (j := 3) (L2 := fun x6 => [(3, cz_i x6), (2, cz_i x5), (0, cz_r l0), (1, cz_i l1)]) S dX5_coatsAt_37 rfl kI_1 (by decide) (fun _ => rfl) (fun x6 => ?_)
        refine ct_goto (tgt := 4) S dX5_coatsAt_40 (by decide) ?_
        exact ct_sub [2, 3, 1, 0] rfl (ih x5 x6 h)
      · refine ct_iconst (v := 1) S dX5_coatsAt_28 kI_1 ?_
        refine ct_iload_n (k := 3) S dX5_coatsAt_29 rfl rfl ?_
        refine ct_ishl S dX5_coatsAt_30 ?_
        refine ct_goto (tgt := 35) S dX5_coatsAt_31 (by decide) ?_
        refine ct_ior S dX5_coatsAt_35 ?_
        refine ct_leti (fun x7 => ?_)
        refine ct_istore_n (L' := [(2, cz_i x7), (0, cz_r l0), (1, cz_i l1), (3, cz_i l3)]) S dX5_coatsAt_36 rfl (by decide) rfl ?_
        refine ct_iincL (j := 3) (L2 := fun x8 => [(3, cz_i x8), (2, cz_i x7), (0, cz_r l0), (1, cz_i l1)]) S dX5_coatsAt_37 rfl kI_1 (by decide) (fun _ => rfl) (fun x8 => ?_)
        refine ct_goto (tgt := 4) S dX5_coatsAt_40 (by decide) ?_
        exact ct_sub [2, 3, 1, 0] rfl (ih x7 x8 h)
set_option maxHeartbeats 4000000 in
set_option maxRecDepth 100000 in
noncomputable def fn_X5_coatsAt (l0 : Option Nat) (l1 : Int32) (h : cz_H) : cz_Z := fn_X5_coatsAt_4 l0 l1 (fun (e9 : Int32) (h10 : cz_H) => some (.inl (some (cz_i e9)), h10)) 1000 0 0 h
set_option maxHeartbeats 4000000 in
set_option maxRecDepth 100000 in
theorem wk_X5_coatsAt {K : cz_K} {D : cz_D} {h0 : cz_H} {oh : cz_O × cz_H} {l0 : Option Nat} {l1 : Int32} {h : cz_H} (S : cz_S K D h0 cX5_coatsAt 4 "HeldCoatsModel" ((Option.some Jvm.ClassFile.FieldType.int)) "coatsAt" ([])) : cz_T K D 2 h0 oh 4 (fn_X5_coatsAt l0 l1 h) h 0 [(0, cz_r l0), (1, cz_i l1)] [] := by
  unfold fn_X5_coatsAt
  refine ct_iconst (v := 0) S dX5_coatsAt_0 kI_0 ?_
  refine ct_istore_n (L' := [(2, cz_i 0), (0, cz_r l0), (1, cz_i l1)]) S dX5_coatsAt_1 rfl (by decide) rfl ?_
  refine ct_iconst (v := 0) S dX5_coatsAt_2 kI_0 ?_
  refine ct_istore_n (L' := [(3, cz_i 0), (2, cz_i 0), (0, cz_r l0), (1, cz_i l1)]) S dX5_coatsAt_3 rfl (by decide) rfl ?_
  refine ct_sub [2, 3, 1, 0] (L' := [(0, cz_r l0), (1, cz_i l1), (2, cz_i 0), (3, cz_i 0)]) rfl (wk_X5_coatsAt_4 S ?_ 1000 0 0 h)
  · intro e9 h10
    refine ct_iload_n (k := 0) S dX5_coatsAt_43 rfl rfl ?_
    exact ct_iret S rfl dX5_coatsAt_44
theorem mt_X5_coatsAt {l : Launch} {D : cz_D} {l0 : Option Nat} {l1 : Int32} {h : cz_H} {oh : cz_O × cz_H} (hz : fn_X5_coatsAt l0 l1 h = some oh) : cz_M l D yX5_coatsAt (ws_ yX5_coatsAt cX5_coatsAt 4 ((Option.some Jvm.ClassFile.FieldType.int))) 2 [cz_r l0, cz_i l1] h oh := cz_met (plainFor_of_name (by decide)) (Nat.le_of_ble_eq_true rfl) hz (fun K hl S => wk_X5_coatsAt S)
/-! HeldCoatsModel.chill(I)I -/
def dkwX5_chill_0 : List UInt8 := [42, 27, 42, 180, 0, 33, 16, 62, 46, 42, 27, 182, 0, 253, 182, 1, 0, 172]
abbrev dktX5_chill_0 : List UInt8 := dkwX5_chill_0 ++ []
theorem dksX5_chill_0 : cX5_chill.data.toList.drop 0 = dktX5_chill_0 := by decide +kernel
theorem dX5_chill_0 : decode cX5_chill 0 = .ok (.aload_n 0, 1) := dk_42 (dk_at dksX5_chill_0 0 rfl rfl)
theorem dX5_chill_1 : decode cX5_chill 1 = .ok (.iload_n 1, 1) := dk_27 (dk_at dksX5_chill_0 1 rfl rfl)
theorem dX5_chill_2 : decode cX5_chill 2 = .ok (.aload_n 0, 1) := dk_42 (dk_at dksX5_chill_0 2 rfl rfl)
theorem dX5_chill_3 : decode cX5_chill 3 = .ok (.getfield 33, 3) := dk_180 0 33 (dk_at dksX5_chill_0 3 rfl rfl)
theorem dX5_chill_6 : decode cX5_chill 6 = .ok (.bipush 62, 2) := dk_16 62 (dk_at dksX5_chill_0 6 rfl rfl)
theorem dX5_chill_8 : decode cX5_chill 8 = .ok (.iaload, 1) := dk_46 (dk_at dksX5_chill_0 8 rfl rfl)
theorem dX5_chill_9 : decode cX5_chill 9 = .ok (.aload_n 0, 1) := dk_42 (dk_at dksX5_chill_0 9 rfl rfl)
theorem dX5_chill_10 : decode cX5_chill 10 = .ok (.iload_n 1, 1) := dk_27 (dk_at dksX5_chill_0 10 rfl rfl)
theorem dX5_chill_11 : decode cX5_chill 11 = .ok (.invokevirtual 253, 3) := dk_182 0 253 (dk_at dksX5_chill_0 11 rfl rfl)
theorem dX5_chill_14 : decode cX5_chill 14 = .ok (.invokevirtual 256, 3) := dk_182 1 0 (dk_at dksX5_chill_0 14 rfl rfl)
theorem dX5_chill_17 : decode cX5_chill 17 = .ok (.ireturn, 1) := dk_172 (dk_at dksX5_chill_0 17 rfl rfl)
theorem se_HeldCoatsModel_coatsAt__I_I_HeldCoatsModel : ∀ c ∈ ([5] : List Nat), ∃ q : vw_C, cz_cl[c]? = some q ∧ Cond.selects q.1 (⟨"HeldCoatsModel", "coatsAt", "(I)I"⟩ : MethodName) (⟨"HeldCoatsModel", "coatsAt", "(I)I"⟩ : MethodName) ∈ lw_all := List.forall_mem_cons.mpr ⟨⟨_, cz_cl5, qs72⟩, fun _ h => absurd h List.not_mem_nil⟩
theorem md_X5_coatsAt : cz_md yX5_coatsAt 4 (ws_ yX5_coatsAt cX5_coatsAt 4 ((Option.some Jvm.ClassFile.FieldType.int))) 1 := ⟨cz_ws_code q2203, q123, ⟨by decide, by decide, by decide +kernel⟩, by decide⟩
theorem se_HeldCoatsModel_chillIn__III_I_HeldCoatsModel : ∀ c ∈ ([5] : List Nat), ∃ q : vw_C, cz_cl[c]? = some q ∧ Cond.selects q.1 (⟨"HeldCoatsModel", "chillIn", "(III)I"⟩ : MethodName) (⟨"HeldCoatsModel", "chillIn", "(III)I"⟩ : MethodName) ∈ lw_all := List.forall_mem_cons.mpr ⟨⟨_, cz_cl5, qs73⟩, fun _ h => absurd h List.not_mem_nil⟩
theorem md_X5_chillIn : cz_md yX5_chillIn 4 (ws_ yX5_chillIn cX5_chillIn 4 ((Option.some Jvm.ClassFile.FieldType.int))) 3 := ⟨cz_ws_code q2207, q123, ⟨by decide, by decide, by decide +kernel⟩, by decide⟩
set_option maxHeartbeats 4000000 in
set_option maxRecDepth 100000 in
noncomputable def fn_X5_chill (l0 : Option Nat) (l1 : Int32) (h : cz_H) : cz_Z := cz_getR h l0 [(5, 6)] (fun r1 => cz_iald h r1 62 (fun x2 => cz_rc h l0 [5] (cz_cI (fn_X5_coatsAt l0 l1 h) (fun x10 h9 => cz_rc h9 l0 [5] (cz_cI (fn_X5_chillIn l0 l1 x2 x10 h9) (fun x18 h17 => some (.inl (some (cz_i x18)), h17)))))))
set_option maxHeartbeats 4000000 in
set_option maxRecDepth 100000 in
theorem wk_X5_chill {K : cz_K} {D : cz_D} {h0 : cz_H} {oh : cz_O × cz_H} {l0 : Option Nat} {l1 : Int32} {h : cz_H} (S : cz_S K D h0 cX5_chill 2 "HeldCoatsModel" ((Option.some Jvm.ClassFile.FieldType.int)) "chill" ([])) : cz_T K D 5 h0 oh 2 (fn_X5_chill l0 l1 h) h 0 [(0, cz_r l0), (1, cz_i l1)] [] := by
  unfold fn_X5_chill
  refine ct_aload_n (k := 0) S dX5_chill_0 rfl rfl ?_
  refine ct_iload_n (k := 1) S dX5_chill_1 rfl rfl ?_
  refine ct_aload_n (k := 0) S dX5_chill_2 rfl rfl ?_
  refine ct_getR S fw_X5_33 dX5_chill_3 (fun r1 => ?_)
  refine ct_bipush (v := 62) S dX5_chill_6 kB_62 ?_
  refine ct_iald S dX5_chill_8 (fun x2 => ?_)
  refine ct_aload_n (k := 0) S dX5_chill_9 rfl rfl ?_
  refine ct_iload_n (k := 1) S dX5_chill_10 rfl rfl ?_
  refine ct_rc (fun b3 ci4 V5 hb6 hc7 hi8 => ?_)
  refine ct_cI (st := [cz_i x2, cz_i l1, cz_r l0]) (cg_virtual (av := [cz_i l1]) S hb6 hc7 hi8 (fun _ e => mt_X5_coatsAt e) md_X5_coatsAt q2200 q2202 se_HeldCoatsModel_coatsAt__I_I_HeldCoatsModel (by decide) (Nat.le_of_ble_eq_true rfl) rfl dX5_chill_11) (fun x10 h9 => ?_)
  refine ct_rc (fun b11 ci12 V13 hb14 hc15 hi16 => ?_)
  refine ct_cI (st := []) (cg_virtual (av := [cz_i l1, cz_i x2, cz_i x10]) S hb14 hc15 hi16 (fun _ e => mt_X5_chillIn e) md_X5_chillIn q2204 q2206 se_HeldCoatsModel_chillIn__III_I_HeldCoatsModel (by decide) (Nat.le_of_ble_eq_true rfl) rfl dX5_chill_14) (fun x18 h17 => ?_)
  exact ct_iret S rfl dX5_chill_17
theorem mt_X5_chill {l : Launch} {D : cz_D} {l0 : Option Nat} {l1 : Int32} {h : cz_H} {oh : cz_O × cz_H} (hz : fn_X5_chill l0 l1 h = some oh) : cz_M l D yX5_chill (ws_ yX5_chill cX5_chill 2 ((Option.some Jvm.ClassFile.FieldType.int))) 5 [cz_r l0, cz_i l1] h oh := cz_met (plainFor_of_name (by decide)) (Nat.le_of_ble_eq_true rfl) hz (fun K hl S => wk_X5_chill S)
/-! HeldCoatsModel.keeps(I)V -/
def dkwX5_keeps_1 : List UInt8 := [96, 27, 79, 42, 180, 0, 33, 16, 117, 92, 46, 4, 96, 79, 177]
abbrev dktX5_keeps_1 : List UInt8 := dkwX5_keeps_1 ++ []
def dkwX5_keeps_0 : List UInt8 := [42, 180, 0, 33, 16, 65, 27, 96, 16, 20, 79, 42, 180, 0, 33, 16, 109, 42, 180, 0, 33, 16, 117, 46]
abbrev dktX5_keeps_0 : List UInt8 := dkwX5_keeps_0 ++ dktX5_keeps_1
theorem dksX5_keeps_0 : cX5_keeps.data.toList.drop 0 = dktX5_keeps_0 := by decide +kernel
theorem dksX5_keeps_1 : cX5_keeps.data.toList.drop 24 = dktX5_keeps_1 := dk_seg dksX5_keeps_0 24 rfl rfl
theorem dX5_keeps_0 : decode cX5_keeps 0 = .ok (.aload_n 0, 1) := dk_42 (dk_at dksX5_keeps_0 0 rfl rfl)
theorem dX5_keeps_1 : decode cX5_keeps 1 = .ok (.getfield 33, 3) := dk_180 0 33 (dk_at dksX5_keeps_0 1 rfl rfl)
theorem dX5_keeps_4 : decode cX5_keeps 4 = .ok (.bipush 65, 2) := dk_16 65 (dk_at dksX5_keeps_0 4 rfl rfl)
theorem dX5_keeps_6 : decode cX5_keeps 6 = .ok (.iload_n 1, 1) := dk_27 (dk_at dksX5_keeps_0 6 rfl rfl)
theorem dX5_keeps_7 : decode cX5_keeps 7 = .ok (.iadd, 1) := dk_96 (dk_at dksX5_keeps_0 7 rfl rfl)
theorem dX5_keeps_8 : decode cX5_keeps 8 = .ok (.bipush 20, 2) := dk_16 20 (dk_at dksX5_keeps_0 8 rfl rfl)
theorem dX5_keeps_10 : decode cX5_keeps 10 = .ok (.iastore, 1) := dk_79 (dk_at dksX5_keeps_0 10 rfl rfl)
theorem dX5_keeps_11 : decode cX5_keeps 11 = .ok (.aload_n 0, 1) := dk_42 (dk_at dksX5_keeps_0 11 rfl rfl)
theorem dX5_keeps_12 : decode cX5_keeps 12 = .ok (.getfield 33, 3) := dk_180 0 33 (dk_at dksX5_keeps_0 12 rfl rfl)
theorem dX5_keeps_15 : decode cX5_keeps 15 = .ok (.bipush 109, 2) := dk_16 109 (dk_at dksX5_keeps_0 15 rfl rfl)
theorem dX5_keeps_17 : decode cX5_keeps 17 = .ok (.aload_n 0, 1) := dk_42 (dk_at dksX5_keeps_0 17 rfl rfl)
theorem dX5_keeps_18 : decode cX5_keeps 18 = .ok (.getfield 33, 3) := dk_180 0 33 (dk_at dksX5_keeps_0 18 rfl rfl)
theorem dX5_keeps_21 : decode cX5_keeps 21 = .ok (.bipush 117, 2) := dk_16 117 (dk_at dksX5_keeps_0 21 rfl rfl)
theorem dX5_keeps_23 : decode cX5_keeps 23 = .ok (.iaload, 1) := dk_46 (dk_at dksX5_keeps_0 23 rfl rfl)
theorem dX5_keeps_24 : decode cX5_keeps 24 = .ok (.iadd, 1) := dk_96 (dk_at dksX5_keeps_1 0 rfl rfl)
theorem dX5_keeps_25 : decode cX5_keeps 25 = .ok (.iload_n 1, 1) := dk_27 (dk_at dksX5_keeps_1 1 rfl rfl)
theorem dX5_keeps_26 : decode cX5_keeps 26 = .ok (.iastore, 1) := dk_79 (dk_at dksX5_keeps_1 2 rfl rfl)
theorem dX5_keeps_27 : decode cX5_keeps 27 = .ok (.aload_n 0, 1) := dk_42 (dk_at dksX5_keeps_1 3 rfl rfl)
theorem dX5_keeps_28 : decode cX5_keeps 28 = .ok (.getfield 33, 3) := dk_180 0 33 (dk_at dksX5_keeps_1 4 rfl rfl)
theorem dX5_keeps_31 : decode cX5_keeps 31 = .ok (.bipush 117, 2) := dk_16 117 (dk_at dksX5_keeps_1 7 rfl rfl)
theorem dX5_keeps_33 : decode cX5_keeps 33 = .ok (.dup2, 1) := dk_92 (dk_at dksX5_keeps_1 9 rfl rfl)
theorem dX5_keeps_34 : decode cX5_keeps 34 = .ok (.iaload, 1) := dk_46 (dk_at dksX5_keeps_1 10 rfl rfl)
theorem dX5_keeps_35 : decode cX5_keeps 35 = .ok (.iconst 1, 1) := dk_4 (dk_at dksX5_keeps_1 11 rfl rfl)
theorem dX5_keeps_36 : decode cX5_keeps 36 = .ok (.iadd, 1) := dk_96 (dk_at dksX5_keeps_1 12 rfl rfl)
theorem dX5_keeps_37 : decode cX5_keeps 37 = .ok (.iastore, 1) := dk_79 (dk_at dksX5_keeps_1 13 rfl rfl)
theorem dX5_keeps_38 : decode cX5_keeps 38 = .ok (.return_, 1) := dk_177 (dk_at dksX5_keeps_1 14 rfl rfl)
theorem kB_20 : (Int8.ofInt (20)).toInt32 = 20 := by decide
set_option maxHeartbeats 4000000 in
set_option maxRecDepth 100000 in
noncomputable def fn_X5_keeps (l0 : Option Nat) (l1 : Int32) (h : cz_H) : cz_Z := cz_getR h l0 [(5, 6)] (fun r1 => cz_iast h r1 ((65 : Int32) + l1) 20 (fun h2 => cz_getR h2 l0 [(5, 6)] (fun r3 => cz_getR h2 l0 [(5, 6)] (fun r4 => cz_iald h2 r4 117 (fun x5 => cz_iast h2 r3 ((109 : Int32) + x5) l1 (fun h6 => cz_getR h6 l0 [(5, 6)] (fun r7 => cz_iald h6 r7 117 (fun x8 => cz_iast h6 r7 117 (x8 + 1) (fun h9 => some (.inl none, h9))))))))))
set_option maxHeartbeats 4000000 in
set_option maxRecDepth 100000 in
theorem wk_X5_keeps {K : cz_K} {D : cz_D} {h0 : cz_H} {oh : cz_O × cz_H} {l0 : Option Nat} {l1 : Int32} {h : cz_H} (S : cz_S K D h0 cX5_keeps 2 "HeldCoatsModel" ((Option.none : Option Jvm.ClassFile.FieldType)) "keeps" ([])) : cz_T K D 2 h0 oh 2 (fn_X5_keeps l0 l1 h) h 0 [(0, cz_r l0), (1, cz_i l1)] [] := by
  unfold fn_X5_keeps
  refine ct_aload_n (k := 0) S dX5_keeps_0 rfl rfl ?_
  refine ct_getR S fw_X5_33 dX5_keeps_1 (fun r1 => ?_)
  refine ct_bipush (v := 65) S dX5_keeps_4 kB_65 ?_
  refine ct_iload_n (k := 1) S dX5_keeps_6 rfl rfl ?_
  refine ct_iadd S dX5_keeps_7 ?_
  refine ct_bipush (v := 20) S dX5_keeps_8 kB_20 ?_
  refine ct_iast S dX5_keeps_10 (fun h2 => ?_)
  refine ct_aload_n (k := 0) S dX5_keeps_11 rfl rfl ?_
  refine ct_getR S fw_X5_33 dX5_keeps_12 (fun r3 => ?_)
  refine ct_bipush (v := 109) S dX5_keeps_15 kB_109 ?_
  refine ct_aload_n (k := 0) S dX5_keeps_17 rfl rfl ?_
  refine ct_getR S fw_X5_33 dX5_keeps_18 (fun r4 => ?_)
  refine ct_bipush (v := 117) S dX5_keeps_21 kB_117 ?_
  refine ct_iald S dX5_keeps_23 (fun x5 => ?_)
  refine ct_iadd S dX5_keeps_24 ?_
  refine ct_iload_n (k := 1) S dX5_keeps_25 rfl rfl ?_
  refine ct_iast S dX5_keeps_26 (fun h6 => ?_)
  refine ct_aload_n (k := 0) S dX5_keeps_27 rfl rfl ?_
  refine ct_getR S fw_X5_33 dX5_keeps_28 (fun r7 => ?_)
  refine ct_bipush (v := 117) S dX5_keeps_31 kB_117 ?_
  refine ct_dup2 S dX5_keeps_33 rfl rfl ?_
  refine ct_iald S dX5_keeps_34 (fun x8 => ?_)
  refine ct_iconst (v := 1) S dX5_keeps_35 kI_1 ?_
  refine ct_iadd S dX5_keeps_36 ?_
  refine ct_iast S dX5_keeps_37 (fun h9 => ?_)
  exact ct_vret S rfl dX5_keeps_38
theorem mt_X5_keeps {l : Launch} {D : cz_D} {l0 : Option Nat} {l1 : Int32} {h : cz_H} {oh : cz_O × cz_H} (hz : fn_X5_keeps l0 l1 h = some oh) : cz_M l D yX5_keeps (ws_ yX5_keeps cX5_keeps 2 ((Option.none : Option Jvm.ClassFile.FieldType))) 2 [cz_r l0, cz_i l1] h oh := cz_met (plainFor_of_name (by decide)) (Nat.le_of_ble_eq_true rfl) hz (fun K hl S => wk_X5_keeps S)
/-! HeldCoatsModel.lying(I)V -/
def dkwX5_lying_3 : List UInt8 := [16, 89, 27, 96, 46, 42, 180, 0, 33, 7, 46, 160, 0, 8, 42, 27, 182, 1, 36, 177]
abbrev dktX5_lying_3 : List UInt8 := dkwX5_lying_3 ++ []
def dkwX5_lying_2 : List UInt8 := [27, 96, 46, 154, 0, 17, 42, 180, 0, 33, 16, 65, 27, 96, 16, 30, 79, 167, 0, 26, 42, 180, 0, 33]
abbrev dktX5_lying_2 : List UInt8 := dkwX5_lying_2 ++ dktX5_lying_3
def dkwX5_lying_1 : List UInt8 := [100, 184, 0, 250, 79, 42, 180, 0, 33, 16, 89, 27, 96, 92, 46, 4, 96, 79, 42, 180, 0, 33, 16, 81]
abbrev dktX5_lying_1 : List UInt8 := dkwX5_lying_1 ++ dktX5_lying_2
def dkwX5_lying_0 : List UInt8 := [42, 180, 0, 33, 16, 81, 27, 96, 3, 42, 180, 0, 33, 16, 81, 27, 96, 46, 42, 180, 0, 33, 8, 46]
abbrev dktX5_lying_0 : List UInt8 := dkwX5_lying_0 ++ dktX5_lying_1
theorem dksX5_lying_0 : cX5_lying.data.toList.drop 0 = dktX5_lying_0 := by decide +kernel
theorem dksX5_lying_1 : cX5_lying.data.toList.drop 24 = dktX5_lying_1 := dk_seg dksX5_lying_0 24 rfl rfl
theorem dksX5_lying_2 : cX5_lying.data.toList.drop 48 = dktX5_lying_2 := dk_seg dksX5_lying_1 24 rfl rfl
theorem dksX5_lying_3 : cX5_lying.data.toList.drop 72 = dktX5_lying_3 := dk_seg dksX5_lying_2 24 rfl rfl
theorem dX5_lying_0 : decode cX5_lying 0 = .ok (.aload_n 0, 1) := dk_42 (dk_at dksX5_lying_0 0 rfl rfl)
theorem dX5_lying_1 : decode cX5_lying 1 = .ok (.getfield 33, 3) := dk_180 0 33 (dk_at dksX5_lying_0 1 rfl rfl)
theorem dX5_lying_4 : decode cX5_lying 4 = .ok (.bipush 81, 2) := dk_16 81 (dk_at dksX5_lying_0 4 rfl rfl)
theorem dX5_lying_6 : decode cX5_lying 6 = .ok (.iload_n 1, 1) := dk_27 (dk_at dksX5_lying_0 6 rfl rfl)
theorem dX5_lying_7 : decode cX5_lying 7 = .ok (.iadd, 1) := dk_96 (dk_at dksX5_lying_0 7 rfl rfl)
theorem dX5_lying_8 : decode cX5_lying 8 = .ok (.iconst 0, 1) := dk_3 (dk_at dksX5_lying_0 8 rfl rfl)
theorem dX5_lying_9 : decode cX5_lying 9 = .ok (.aload_n 0, 1) := dk_42 (dk_at dksX5_lying_0 9 rfl rfl)
theorem dX5_lying_10 : decode cX5_lying 10 = .ok (.getfield 33, 3) := dk_180 0 33 (dk_at dksX5_lying_0 10 rfl rfl)
theorem dX5_lying_13 : decode cX5_lying 13 = .ok (.bipush 81, 2) := dk_16 81 (dk_at dksX5_lying_0 13 rfl rfl)
theorem dX5_lying_15 : decode cX5_lying 15 = .ok (.iload_n 1, 1) := dk_27 (dk_at dksX5_lying_0 15 rfl rfl)
theorem dX5_lying_16 : decode cX5_lying 16 = .ok (.iadd, 1) := dk_96 (dk_at dksX5_lying_0 16 rfl rfl)
theorem dX5_lying_17 : decode cX5_lying 17 = .ok (.iaload, 1) := dk_46 (dk_at dksX5_lying_0 17 rfl rfl)
theorem dX5_lying_18 : decode cX5_lying 18 = .ok (.aload_n 0, 1) := dk_42 (dk_at dksX5_lying_0 18 rfl rfl)
theorem dX5_lying_19 : decode cX5_lying 19 = .ok (.getfield 33, 3) := dk_180 0 33 (dk_at dksX5_lying_0 19 rfl rfl)
theorem dX5_lying_22 : decode cX5_lying 22 = .ok (.iconst 5, 1) := dk_8 (dk_at dksX5_lying_0 22 rfl rfl)
theorem dX5_lying_23 : decode cX5_lying 23 = .ok (.iaload, 1) := dk_46 (dk_at dksX5_lying_0 23 rfl rfl)
theorem dX5_lying_24 : decode cX5_lying 24 = .ok (.isub, 1) := dk_100 (dk_at dksX5_lying_1 0 rfl rfl)
theorem dX5_lying_25 : decode cX5_lying 25 = .ok (.invokestatic 250, 3) := dk_184 0 250 (dk_at dksX5_lying_1 1 rfl rfl)
theorem dX5_lying_28 : decode cX5_lying 28 = .ok (.iastore, 1) := dk_79 (dk_at dksX5_lying_1 4 rfl rfl)
theorem dX5_lying_29 : decode cX5_lying 29 = .ok (.aload_n 0, 1) := dk_42 (dk_at dksX5_lying_1 5 rfl rfl)
theorem dX5_lying_30 : decode cX5_lying 30 = .ok (.getfield 33, 3) := dk_180 0 33 (dk_at dksX5_lying_1 6 rfl rfl)
theorem dX5_lying_33 : decode cX5_lying 33 = .ok (.bipush 89, 2) := dk_16 89 (dk_at dksX5_lying_1 9 rfl rfl)
theorem dX5_lying_35 : decode cX5_lying 35 = .ok (.iload_n 1, 1) := dk_27 (dk_at dksX5_lying_1 11 rfl rfl)
theorem dX5_lying_36 : decode cX5_lying 36 = .ok (.iadd, 1) := dk_96 (dk_at dksX5_lying_1 12 rfl rfl)
theorem dX5_lying_37 : decode cX5_lying 37 = .ok (.dup2, 1) := dk_92 (dk_at dksX5_lying_1 13 rfl rfl)
theorem dX5_lying_38 : decode cX5_lying 38 = .ok (.iaload, 1) := dk_46 (dk_at dksX5_lying_1 14 rfl rfl)
theorem dX5_lying_39 : decode cX5_lying 39 = .ok (.iconst 1, 1) := dk_4 (dk_at dksX5_lying_1 15 rfl rfl)
theorem dX5_lying_40 : decode cX5_lying 40 = .ok (.iadd, 1) := dk_96 (dk_at dksX5_lying_1 16 rfl rfl)
theorem dX5_lying_41 : decode cX5_lying 41 = .ok (.iastore, 1) := dk_79 (dk_at dksX5_lying_1 17 rfl rfl)
theorem dX5_lying_42 : decode cX5_lying 42 = .ok (.aload_n 0, 1) := dk_42 (dk_at dksX5_lying_1 18 rfl rfl)
theorem dX5_lying_43 : decode cX5_lying 43 = .ok (.getfield 33, 3) := dk_180 0 33 (dk_at dksX5_lying_1 19 rfl rfl)
theorem dX5_lying_46 : decode cX5_lying 46 = .ok (.bipush 81, 2) := dk_16 81 (dk_at dksX5_lying_1 22 rfl rfl)
theorem dX5_lying_48 : decode cX5_lying 48 = .ok (.iload_n 1, 1) := dk_27 (dk_at dksX5_lying_2 0 rfl rfl)
theorem dX5_lying_49 : decode cX5_lying 49 = .ok (.iadd, 1) := dk_96 (dk_at dksX5_lying_2 1 rfl rfl)
theorem dX5_lying_50 : decode cX5_lying 50 = .ok (.iaload, 1) := dk_46 (dk_at dksX5_lying_2 2 rfl rfl)
theorem dX5_lying_51 : decode cX5_lying 51 = .ok (.ifCond .ne 17, 3) := dk_154 0 17 (dk_at dksX5_lying_2 3 rfl rfl)
theorem dX5_lying_54 : decode cX5_lying 54 = .ok (.aload_n 0, 1) := dk_42 (dk_at dksX5_lying_2 6 rfl rfl)
theorem dX5_lying_55 : decode cX5_lying 55 = .ok (.getfield 33, 3) := dk_180 0 33 (dk_at dksX5_lying_2 7 rfl rfl)
theorem dX5_lying_58 : decode cX5_lying 58 = .ok (.bipush 65, 2) := dk_16 65 (dk_at dksX5_lying_2 10 rfl rfl)
theorem dX5_lying_60 : decode cX5_lying 60 = .ok (.iload_n 1, 1) := dk_27 (dk_at dksX5_lying_2 12 rfl rfl)
theorem dX5_lying_61 : decode cX5_lying 61 = .ok (.iadd, 1) := dk_96 (dk_at dksX5_lying_2 13 rfl rfl)
theorem dX5_lying_62 : decode cX5_lying 62 = .ok (.bipush 30, 2) := dk_16 30 (dk_at dksX5_lying_2 14 rfl rfl)
theorem dX5_lying_64 : decode cX5_lying 64 = .ok (.iastore, 1) := dk_79 (dk_at dksX5_lying_2 16 rfl rfl)
theorem dX5_lying_65 : decode cX5_lying 65 = .ok (.goto 26, 3) := dk_167 0 26 (dk_at dksX5_lying_2 17 rfl rfl)
theorem dX5_lying_68 : decode cX5_lying 68 = .ok (.aload_n 0, 1) := dk_42 (dk_at dksX5_lying_2 20 rfl rfl)
theorem dX5_lying_69 : decode cX5_lying 69 = .ok (.getfield 33, 3) := dk_180 0 33 (dk_at dksX5_lying_2 21 rfl rfl)
theorem dX5_lying_72 : decode cX5_lying 72 = .ok (.bipush 89, 2) := dk_16 89 (dk_at dksX5_lying_3 0 rfl rfl)
theorem dX5_lying_74 : decode cX5_lying 74 = .ok (.iload_n 1, 1) := dk_27 (dk_at dksX5_lying_3 2 rfl rfl)
theorem dX5_lying_75 : decode cX5_lying 75 = .ok (.iadd, 1) := dk_96 (dk_at dksX5_lying_3 3 rfl rfl)
theorem dX5_lying_76 : decode cX5_lying 76 = .ok (.iaload, 1) := dk_46 (dk_at dksX5_lying_3 4 rfl rfl)
theorem dX5_lying_77 : decode cX5_lying 77 = .ok (.aload_n 0, 1) := dk_42 (dk_at dksX5_lying_3 5 rfl rfl)
theorem dX5_lying_78 : decode cX5_lying 78 = .ok (.getfield 33, 3) := dk_180 0 33 (dk_at dksX5_lying_3 6 rfl rfl)
theorem dX5_lying_81 : decode cX5_lying 81 = .ok (.iconst 4, 1) := dk_7 (dk_at dksX5_lying_3 9 rfl rfl)
theorem dX5_lying_82 : decode cX5_lying 82 = .ok (.iaload, 1) := dk_46 (dk_at dksX5_lying_3 10 rfl rfl)
theorem dX5_lying_83 : decode cX5_lying 83 = .ok (.if_icmp .ne 8, 3) := dk_160 0 8 (dk_at dksX5_lying_3 11 rfl rfl)
theorem dX5_lying_86 : decode cX5_lying 86 = .ok (.aload_n 0, 1) := dk_42 (dk_at dksX5_lying_3 14 rfl rfl)
theorem dX5_lying_87 : decode cX5_lying 87 = .ok (.iload_n 1, 1) := dk_27 (dk_at dksX5_lying_3 15 rfl rfl)
theorem dX5_lying_88 : decode cX5_lying 88 = .ok (.invokevirtual 292, 3) := dk_182 1 36 (dk_at dksX5_lying_3 16 rfl rfl)
theorem dX5_lying_91 : decode cX5_lying 91 = .ok (.return_, 1) := dk_177 (dk_at dksX5_lying_3 19 rfl rfl)
theorem se_HeldCoatsModel_keeps__I_V_HeldCoatsModel : ∀ c ∈ ([5] : List Nat), ∃ q : vw_C, cz_cl[c]? = some q ∧ Cond.selects q.1 (⟨"HeldCoatsModel", "keeps", "(I)V"⟩ : MethodName) (⟨"HeldCoatsModel", "keeps", "(I)V"⟩ : MethodName) ∈ lw_all := List.forall_mem_cons.mpr ⟨⟨_, cz_cl5, qs86⟩, fun _ h => absurd h List.not_mem_nil⟩
theorem md_X5_keeps : cz_md yX5_keeps 2 (ws_ yX5_keeps cX5_keeps 2 ((Option.none : Option Jvm.ClassFile.FieldType))) 1 := ⟨cz_ws_code q2286, q123, ⟨by decide, by decide, by decide +kernel⟩, by decide⟩
theorem kI_4 : Int32.ofInt (4) = 4 := by decide
theorem kB_89 : (Int8.ofInt (89)).toInt32 = 89 := by decide
theorem kB_81 : (Int8.ofInt (81)).toInt32 = 81 := by decide
theorem kI_5 : Int32.ofInt (5) = 5 := by decide
set_option maxHeartbeats 4000000 in
set_option maxRecDepth 100000 in
noncomputable def fn_X5_lying (l0 : Option Nat) (l1 : Int32) (h : cz_H) : cz_Z := cz_getR h l0 [(5, 6)] (fun r1 => cz_getR h l0 [(5, 6)] (fun r2 => cz_iald h r2 ((81 : Int32) + l1) (fun x3 => cz_getR h l0 [(5, 6)] (fun r4 => cz_iald h r4 5 (fun x5 => cz_cI (fn_X5_greater 0 (x3 - x5) h) (fun x7 h6 => cz_iast h6 r1 ((81 : Int32) + l1) x7 (fun h8 => cz_getR h8 l0 [(5, 6)] (fun r9 => cz_leti ((89 : Int32) + l1) (fun x10 => cz_iald h8 r9 x10 (fun x11 => cz_iast h8 r9 x10 (x11 + 1) (fun h12 => cz_getR h12 l0 [(5, 6)] (fun r13 => cz_iald h12 r13 ((81 : Int32) + l1) (fun x14 => (if x14 = 0 then cz_getR h12 l0 [(5, 6)] (fun r26 => cz_iast h12 r26 ((65 : Int32) + l1) 30 (fun h27 => some (.inl none, h27))) else cz_getR h12 l0 [(5, 6)] (fun r15 => cz_iald h12 r15 ((89 : Int32) + l1) (fun x16 => cz_getR h12 l0 [(5, 6)] (fun r17 => cz_iald h12 r17 4 (fun x18 => (if x16 = x18 then cz_rc h12 l0 [5] (cz_cV (fn_X5_keeps l0 l1 h12) (fun h25 => some (.inl none, h25))) else some (.inl none, h12))))))))))))))))))))
set_option maxHeartbeats 4000000 in
set_option maxRecDepth 100000 in
theorem wk_X5_lying {K : cz_K} {D : cz_D} {h0 : cz_H} {oh : cz_O × cz_H} {l0 : Option Nat} {l1 : Int32} {h : cz_H} (S : cz_S K D h0 cX5_lying 2 "HeldCoatsModel" ((Option.none : Option Jvm.ClassFile.FieldType)) "lying" ([])) : cz_T K D 3 h0 oh 2 (fn_X5_lying l0 l1 h) h 0 [(0, cz_r l0), (1, cz_i l1)] [] := by
  unfold fn_X5_lying
  refine ct_aload_n (k := 0) S dX5_lying_0 rfl rfl ?_
  refine ct_getR S fw_X5_33 dX5_lying_1 (fun r1 => ?_)
  refine ct_bipush (v := 81) S dX5_lying_4 kB_81 ?_
  refine ct_iload_n (k := 1) S dX5_lying_6 rfl rfl ?_
  refine ct_iadd S dX5_lying_7 ?_
  refine ct_iconst (v := 0) S dX5_lying_8 kI_0 ?_
  refine ct_aload_n (k := 0) S dX5_lying_9 rfl rfl ?_
  refine ct_getR S fw_X5_33 dX5_lying_10 (fun r2 => ?_)
  refine ct_bipush (v := 81) S dX5_lying_13 kB_81 ?_
  refine ct_iload_n (k := 1) S dX5_lying_15 rfl rfl ?_
  refine ct_iadd S dX5_lying_16 ?_
  refine ct_iald S dX5_lying_17 (fun x3 => ?_)
  refine ct_aload_n (k := 0) S dX5_lying_18 rfl rfl ?_
  refine ct_getR S fw_X5_33 dX5_lying_19 (fun r4 => ?_)
  refine ct_iconst (v := 5) S dX5_lying_22 kI_5 ?_
  refine ct_iald S dX5_lying_23 (fun x5 => ?_)
  refine ct_isub S dX5_lying_24 ?_
  refine ct_cI (st := [cz_i ((81 : Int32) + l1), cz_r r1]) (cg_static (av := [cz_i 0, cz_i (x3 - x5)]) S (fun _ e => mt_X5_greater e) md_X5_greater (Or.inl q2212) q2213 (by decide) (Nat.le_of_ble_eq_true rfl) rfl dX5_lying_25) (fun x7 h6 => ?_)
  refine ct_iast S dX5_lying_28 (fun h8 => ?_)
  refine ct_aload_n (k := 0) S dX5_lying_29 rfl rfl ?_
  refine ct_getR S fw_X5_33 dX5_lying_30 (fun r9 => ?_)
  refine ct_bipush (v := 89) S dX5_lying_33 kB_89 ?_
  refine ct_iload_n (k := 1) S dX5_lying_35 rfl rfl ?_
  refine ct_iadd S dX5_lying_36 ?_
  refine ct_leti (fun x10 => ?_)
  refine ct_dup2 S dX5_lying_37 rfl rfl ?_
  refine ct_iald S dX5_lying_38 (fun x11 => ?_)
  refine ct_iconst (v := 1) S dX5_lying_39 kI_1 ?_
  refine ct_iadd S dX5_lying_40 ?_
  refine ct_iast S dX5_lying_41 (fun h12 => ?_)
  refine ct_aload_n (k := 0) S dX5_lying_42 rfl rfl ?_
  refine ct_getR S fw_X5_33 dX5_lying_43 (fun r13 => ?_)
  refine ct_bipush (v := 81) S dX5_lying_46 kB_81 ?_
  refine ct_iload_n (k := 1) S dX5_lying_48 rfl rfl ?_
  refine ct_iadd S dX5_lying_49 ?_
  refine ct_iald S dX5_lying_50 (fun x14 => ?_)
  refine ct_if_ne (tgt := 68) S dX5_lying_51 (by decide) ?_ ?_
  · refine ct_aload_n (k := 0) S dX5_lying_68 rfl rfl ?_
    refine ct_getR S fw_X5_33 dX5_lying_69 (fun r15 => ?_)
    refine ct_bipush (v := 89) S dX5_lying_72 kB_89 ?_
    refine ct_iload_n (k := 1) S dX5_lying_74 rfl rfl ?_
    refine ct_iadd S dX5_lying_75 ?_
    refine ct_iald S dX5_lying_76 (fun x16 => ?_)
    refine ct_aload_n (k := 0) S dX5_lying_77 rfl rfl ?_
    refine ct_getR S fw_X5_33 dX5_lying_78 (fun r17 => ?_)
    refine ct_iconst (v := 4) S dX5_lying_81 kI_4 ?_
    refine ct_iald S dX5_lying_82 (fun x18 => ?_)
    refine ct_icmp_ne (tgt := 91) S dX5_lying_83 (by decide) ?_ ?_
    · exact ct_vret S rfl dX5_lying_91
    · refine ct_aload_n (k := 0) S dX5_lying_86 rfl rfl ?_
      refine ct_iload_n (k := 1) S dX5_lying_87 rfl rfl ?_
      refine ct_rc (fun b19 ci20 V21 hb22 hc23 hi24 => ?_)
      refine ct_cV (st := []) (cg_virtual (av := [cz_i l1]) S hb22 hc23 hi24 (fun _ e => mt_X5_keeps e) md_X5_keeps q2283 q2285 se_HeldCoatsModel_keeps__I_V_HeldCoatsModel (by decide) (Nat.le_of_ble_eq_true rfl) rfl dX5_lying_88) (fun h25 => ?_)
      exact ct_vret S rfl dX5_lying_91
  · refine ct_aload_n (k := 0) S dX5_lying_54 rfl rfl ?_
    refine ct_getR S fw_X5_33 dX5_lying_55 (fun r26 => ?_)
    refine ct_bipush (v := 65) S dX5_lying_58 kB_65 ?_
    refine ct_iload_n (k := 1) S dX5_lying_60 rfl rfl ?_
    refine ct_iadd S dX5_lying_61 ?_
    refine ct_bipush (v := 30) S dX5_lying_62 kB_30 ?_
    refine ct_iast S dX5_lying_64 (fun h27 => ?_)
    refine ct_goto (tgt := 91) S dX5_lying_65 (by decide) ?_
    exact ct_vret S rfl dX5_lying_91
theorem mt_X5_lying {l : Launch} {D : cz_D} {l0 : Option Nat} {l1 : Int32} {h : cz_H} {oh : cz_O × cz_H} (hz : fn_X5_lying l0 l1 h = some oh) : cz_M l D yX5_lying (ws_ yX5_lying cX5_lying 2 ((Option.none : Option Jvm.ClassFile.FieldType))) 3 [cz_r l0, cz_i l1] h oh := cz_met (plainFor_of_name (by decide)) (Nat.le_of_ble_eq_true rfl) hz (fun K hl S => wk_X5_lying S)
/-! HeldCoatsModel.isSummer()Z -/
def dkwX5_isSummer_1 : List UInt8 := [3, 172]
abbrev dktX5_isSummer_1 : List UInt8 := dkwX5_isSummer_1 ++ []
def dkwX5_isSummer_0 : List UInt8 := [42, 42, 180, 0, 33, 16, 62, 46, 182, 0, 234, 42, 180, 0, 33, 6, 46, 162, 0, 7, 4, 167, 0, 4]
abbrev dktX5_isSummer_0 : List UInt8 := dkwX5_isSummer_0 ++ dktX5_isSummer_1
theorem dksX5_isSummer_0 : cX5_isSummer.data.toList.drop 0 = dktX5_isSummer_0 := by decide +kernel
theorem dksX5_isSummer_1 : cX5_isSummer.data.toList.drop 24 = dktX5_isSummer_1 := dk_seg dksX5_isSummer_0 24 rfl rfl
theorem dX5_isSummer_0 : decode cX5_isSummer 0 = .ok (.aload_n 0, 1) := dk_42 (dk_at dksX5_isSummer_0 0 rfl rfl)
theorem dX5_isSummer_1 : decode cX5_isSummer 1 = .ok (.aload_n 0, 1) := dk_42 (dk_at dksX5_isSummer_0 1 rfl rfl)
theorem dX5_isSummer_2 : decode cX5_isSummer 2 = .ok (.getfield 33, 3) := dk_180 0 33 (dk_at dksX5_isSummer_0 2 rfl rfl)
theorem dX5_isSummer_5 : decode cX5_isSummer 5 = .ok (.bipush 62, 2) := dk_16 62 (dk_at dksX5_isSummer_0 5 rfl rfl)
theorem dX5_isSummer_7 : decode cX5_isSummer 7 = .ok (.iaload, 1) := dk_46 (dk_at dksX5_isSummer_0 7 rfl rfl)
theorem dX5_isSummer_8 : decode cX5_isSummer 8 = .ok (.invokevirtual 234, 3) := dk_182 0 234 (dk_at dksX5_isSummer_0 8 rfl rfl)
theorem dX5_isSummer_11 : decode cX5_isSummer 11 = .ok (.aload_n 0, 1) := dk_42 (dk_at dksX5_isSummer_0 11 rfl rfl)
theorem dX5_isSummer_12 : decode cX5_isSummer 12 = .ok (.getfield 33, 3) := dk_180 0 33 (dk_at dksX5_isSummer_0 12 rfl rfl)
theorem dX5_isSummer_15 : decode cX5_isSummer 15 = .ok (.iconst 3, 1) := dk_6 (dk_at dksX5_isSummer_0 15 rfl rfl)
theorem dX5_isSummer_16 : decode cX5_isSummer 16 = .ok (.iaload, 1) := dk_46 (dk_at dksX5_isSummer_0 16 rfl rfl)
theorem dX5_isSummer_17 : decode cX5_isSummer 17 = .ok (.if_icmp .ge 7, 3) := dk_162 0 7 (dk_at dksX5_isSummer_0 17 rfl rfl)
theorem dX5_isSummer_20 : decode cX5_isSummer 20 = .ok (.iconst 1, 1) := dk_4 (dk_at dksX5_isSummer_0 20 rfl rfl)
theorem dX5_isSummer_21 : decode cX5_isSummer 21 = .ok (.goto 4, 3) := dk_167 0 4 (dk_at dksX5_isSummer_0 21 rfl rfl)
theorem dX5_isSummer_24 : decode cX5_isSummer 24 = .ok (.iconst 0, 1) := dk_3 (dk_at dksX5_isSummer_1 0 rfl rfl)
theorem dX5_isSummer_25 : decode cX5_isSummer 25 = .ok (.ireturn, 1) := dk_172 (dk_at dksX5_isSummer_1 1 rfl rfl)
theorem kI_3 : Int32.ofInt (3) = 3 := by decide
set_option maxHeartbeats 4000000 in
set_option maxRecDepth 100000 in
noncomputable def fn_X5_isSummer (l0 : Option Nat) (h : cz_H) : cz_Z := cz_getR h l0 [(5, 6)] (fun r1 => cz_iald h r1 62 (fun x2 => cz_rc h l0 [5] (cz_cI (fn_X5_coldOn l0 x2 h) (fun x10 h9 => cz_getR h9 l0 [(5, 6)] (fun r11 => cz_iald h9 r11 3 (fun x12 => (if x12 ≤ x10 then some (.inl (some (cz_i 0)), h9) else some (.inl (some (cz_i 1)), h9))))))))
set_option maxHeartbeats 4000000 in
set_option maxRecDepth 100000 in
theorem wk_X5_isSummer {K : cz_K} {D : cz_D} {h0 : cz_H} {oh : cz_O × cz_H} {l0 : Option Nat} {h : cz_H} (S : cz_S K D h0 cX5_isSummer 1 "HeldCoatsModel" ((Option.some Jvm.ClassFile.FieldType.boolean)) "isSummer" ([])) : cz_T K D 3 h0 oh 1 (fn_X5_isSummer l0 h) h 0 [(0, cz_r l0)] [] := by
  unfold fn_X5_isSummer
  refine ct_aload_n (k := 0) S dX5_isSummer_0 rfl rfl ?_
  refine ct_aload_n (k := 0) S dX5_isSummer_1 rfl rfl ?_
  refine ct_getR S fw_X5_33 dX5_isSummer_2 (fun r1 => ?_)
  refine ct_bipush (v := 62) S dX5_isSummer_5 kB_62 ?_
  refine ct_iald S dX5_isSummer_7 (fun x2 => ?_)
  refine ct_rc (fun b3 ci4 V5 hb6 hc7 hi8 => ?_)
  refine ct_cI (st := []) (cg_virtual (av := [cz_i x2]) S hb6 hc7 hi8 (fun _ e => mt_X5_coldOn e) md_X5_coldOn q2176 q2178 se_HeldCoatsModel_coldOn__I_I_HeldCoatsModel (by decide) (Nat.le_of_ble_eq_true rfl) rfl dX5_isSummer_8) (fun x10 h9 => ?_)
  refine ct_aload_n (k := 0) S dX5_isSummer_11 rfl rfl ?_
  refine ct_getR S fw_X5_33 dX5_isSummer_12 (fun r11 => ?_)
  refine ct_iconst (v := 3) S dX5_isSummer_15 kI_3 ?_
  refine ct_iald S dX5_isSummer_16 (fun x12 => ?_)
  refine ct_icmp_ge (tgt := 24) S dX5_isSummer_17 (by decide) ?_ ?_
  · refine ct_iconst (v := 0) S dX5_isSummer_24 kI_0 ?_
    exact ct_zr (ty := .boolean) S rfl rfl dX5_isSummer_25
  · refine ct_iconst (v := 1) S dX5_isSummer_20 kI_1 ?_
    refine ct_goto (tgt := 25) S dX5_isSummer_21 (by decide) ?_
    exact ct_zr (ty := .boolean) S rfl rfl dX5_isSummer_25
theorem mt_X5_isSummer {l : Launch} {D : cz_D} {l0 : Option Nat} {h : cz_H} {oh : cz_O × cz_H} (hz : fn_X5_isSummer l0 h = some oh) : cz_M l D yX5_isSummer (ws_ yX5_isSummer cX5_isSummer 1 ((Option.some Jvm.ClassFile.FieldType.boolean))) 3 [cz_r l0] h oh := cz_met (plainFor_of_name (by decide)) (Nat.le_of_ble_eq_true rfl) hz (fun K hl S => wk_X5_isSummer S)
/-! HeldCoatsModel.coatOn(I)I -/
def dkwX5_coatOn_1 : List UInt8 := [96, 160, 0, 5, 28, 172, 132, 2, 1, 167, 255, 225, 2, 172]
abbrev dktX5_coatOn_1 : List UInt8 := dkwX5_coatOn_1 ++ []
def dkwX5_coatOn_0 : List UInt8 := [3, 61, 28, 42, 180, 0, 33, 5, 46, 162, 0, 27, 42, 180, 0, 33, 16, 65, 28, 96, 46, 16, 10, 27]
abbrev dktX5_coatOn_0 : List UInt8 := dkwX5_coatOn_0 ++ dktX5_coatOn_1
theorem dksX5_coatOn_0 : cX5_coatOn.data.toList.drop 0 = dktX5_coatOn_0 := by decide +kernel
theorem dksX5_coatOn_1 : cX5_coatOn.data.toList.drop 24 = dktX5_coatOn_1 := dk_seg dksX5_coatOn_0 24 rfl rfl
theorem dX5_coatOn_0 : decode cX5_coatOn 0 = .ok (.iconst 0, 1) := dk_3 (dk_at dksX5_coatOn_0 0 rfl rfl)
theorem dX5_coatOn_1 : decode cX5_coatOn 1 = .ok (.istore_n 2, 1) := dk_61 (dk_at dksX5_coatOn_0 1 rfl rfl)
theorem dX5_coatOn_2 : decode cX5_coatOn 2 = .ok (.iload_n 2, 1) := dk_28 (dk_at dksX5_coatOn_0 2 rfl rfl)
theorem dX5_coatOn_3 : decode cX5_coatOn 3 = .ok (.aload_n 0, 1) := dk_42 (dk_at dksX5_coatOn_0 3 rfl rfl)
theorem dX5_coatOn_4 : decode cX5_coatOn 4 = .ok (.getfield 33, 3) := dk_180 0 33 (dk_at dksX5_coatOn_0 4 rfl rfl)
theorem dX5_coatOn_7 : decode cX5_coatOn 7 = .ok (.iconst 2, 1) := dk_5 (dk_at dksX5_coatOn_0 7 rfl rfl)
theorem dX5_coatOn_8 : decode cX5_coatOn 8 = .ok (.iaload, 1) := dk_46 (dk_at dksX5_coatOn_0 8 rfl rfl)
theorem dX5_coatOn_9 : decode cX5_coatOn 9 = .ok (.if_icmp .ge 27, 3) := dk_162 0 27 (dk_at dksX5_coatOn_0 9 rfl rfl)
theorem dX5_coatOn_12 : decode cX5_coatOn 12 = .ok (.aload_n 0, 1) := dk_42 (dk_at dksX5_coatOn_0 12 rfl rfl)
theorem dX5_coatOn_13 : decode cX5_coatOn 13 = .ok (.getfield 33, 3) := dk_180 0 33 (dk_at dksX5_coatOn_0 13 rfl rfl)
theorem dX5_coatOn_16 : decode cX5_coatOn 16 = .ok (.bipush 65, 2) := dk_16 65 (dk_at dksX5_coatOn_0 16 rfl rfl)
theorem dX5_coatOn_18 : decode cX5_coatOn 18 = .ok (.iload_n 2, 1) := dk_28 (dk_at dksX5_coatOn_0 18 rfl rfl)
theorem dX5_coatOn_19 : decode cX5_coatOn 19 = .ok (.iadd, 1) := dk_96 (dk_at dksX5_coatOn_0 19 rfl rfl)
theorem dX5_coatOn_20 : decode cX5_coatOn 20 = .ok (.iaload, 1) := dk_46 (dk_at dksX5_coatOn_0 20 rfl rfl)
theorem dX5_coatOn_21 : decode cX5_coatOn 21 = .ok (.bipush 10, 2) := dk_16 10 (dk_at dksX5_coatOn_0 21 rfl rfl)
theorem dX5_coatOn_23 : decode cX5_coatOn 23 = .ok (.iload_n 1, 1) := dk_27 (dk_at dksX5_coatOn_0 23 rfl rfl)
theorem dX5_coatOn_24 : decode cX5_coatOn 24 = .ok (.iadd, 1) := dk_96 (dk_at dksX5_coatOn_1 0 rfl rfl)
theorem dX5_coatOn_25 : decode cX5_coatOn 25 = .ok (.if_icmp .ne 5, 3) := dk_160 0 5 (dk_at dksX5_coatOn_1 1 rfl rfl)
theorem dX5_coatOn_28 : decode cX5_coatOn 28 = .ok (.iload_n 2, 1) := dk_28 (dk_at dksX5_coatOn_1 4 rfl rfl)
theorem dX5_coatOn_29 : decode cX5_coatOn 29 = .ok (.ireturn, 1) := dk_172 (dk_at dksX5_coatOn_1 5 rfl rfl)
theorem dX5_coatOn_30 : decode cX5_coatOn 30 = .ok (.iinc 2 1, 3) := dk_132 2 1 (dk_at dksX5_coatOn_1 6 rfl rfl)
theorem dX5_coatOn_33 : decode cX5_coatOn 33 = .ok (.goto (-31), 3) := dk_167 255 225 (dk_at dksX5_coatOn_1 9 rfl rfl)
theorem dX5_coatOn_36 : decode cX5_coatOn 36 = .ok (.iconst (-1), 1) := dk_2 (dk_at dksX5_coatOn_1 12 rfl rfl)
theorem dX5_coatOn_37 : decode cX5_coatOn 37 = .ok (.ireturn, 1) := dk_172 (dk_at dksX5_coatOn_1 13 rfl rfl)
theorem kB_10 : (Int8.ofInt (10)).toInt32 = 10 := by decide
set_option maxHeartbeats 4000000 in
set_option maxRecDepth 100000 in
noncomputable def fn_X5_coatOn_2 (l0 : Option Nat) (l1 : Int32) (k0 : Int32 → cz_H → cz_Z) (k1 : cz_H → cz_Z) : Nat → Int32 → cz_H → cz_Z
  | 0, _, _ => none
  | n + 1, l2, h => cz_getR h l0 [(5, 6)] (fun r1 => cz_iald h r1 2 (fun x2 => (if x2 ≤ l2 then k1 h else cz_getR h l0 [(5, 6)] (fun r3 => cz_iald h r3 ((65 : Int32) + l2) (fun x4 => (if x4 = ((10 : Int32) + l1) then k0 l2 h else cz_leti (l2 + 1) (fun x5 => fn_X5_coatOn_2 l0 l1 k0 k1 n x5 h)))))))
set_option maxHeartbeats 4000000 in
set_option maxRecDepth 100000 in
theorem wk_X5_coatOn_2 {K : cz_K} {D : cz_D} {h0 : cz_H} {oh : cz_O × cz_H} {l0 : Option Nat} {l1 : Int32} {k0 : Int32 → cz_H → cz_Z} {k1 : cz_H → cz_Z} (S : cz_S K D h0 cX5_coatOn 3 "HeldCoatsModel" ((Option.some Jvm.ClassFile.FieldType.int)) "coatOn" ([])) (hk0 : ∀ (e2 : Int32) (h : cz_H), cz_T K D 2 h0 oh 3 (k0 e2 h) h 28 [(2, cz_i e2)] []) (hk1 : ∀ (h : cz_H), cz_T K D 2 h0 oh 3 (k1 h) h 36 [] []) : ∀ (n : Nat) (l2 : Int32) (h : cz_H), cz_T K D 2 h0 oh 3 (fn_X5_coatOn_2 l0 l1 k0 k1 n l2 h) h 2 [(0, cz_r l0), (1, cz_i l1), (2, cz_i l2)] [] := by
  intro n
  induction n with
  | zero => intros; exact ct_none
  | succ n ih =>
    intro l2 h
    rw [fn_X5_coatOn_2]
    refine ct_iload_n (k := 2) S dX5_coatOn_2 rfl rfl ?_
    refine ct_aload_n (k := 0) S dX5_coatOn_3 rfl rfl ?_
    refine ct_getR S fw_X5_33 dX5_coatOn_4 (fun r1 => ?_)
    refine ct_iconst (v := 2) S dX5_coatOn_7 kI_2 ?_
    refine ct_iald S dX5_coatOn_8 (fun x2 => ?_)
    refine ct_icmp_ge (tgt := 36) S dX5_coatOn_9 (by decide) ?_ ?_
    · exact ct_sub [] rfl (hk1 h)
    · refine ct_aload_n (k := 0) S dX5_coatOn_12 rfl rfl ?_
      refine ct_getR S fw_X5_33 dX5_coatOn_13 (fun r3 => ?_)
      refine ct_bipush (v := 65) S dX5_coatOn_16 kB_65 ?_
      refine ct_iload_n (k := 2) S dX5_coatOn_18 rfl rfl ?_
      refine ct_iadd S dX5_coatOn_19 ?_
      refine ct_iald S dX5_coatOn_20 (fun x4 => ?_)
      refine ct_bipush (v := 10) S dX5_coatOn_21 kB_10 ?_
      refine ct_iload_n (k := 1) S dX5_coatOn_23 rfl rfl ?_
      refine ct_iadd S dX5_coatOn_24 ?_
      refine ct_icmp_ne (tgt := 30) S dX5_coatOn_25 (by decide) ?_ ?_
      · refine ct_iincL (j := 2) (L2 := fun x5 => [(2, cz_i x5), (0, cz_r l0), (1, cz_i l1)]) S dX5_coatOn_30 rfl kI_1 (by decide) (fun _ => rfl) (fun x5 => ?_)
        refine ct_goto (tgt := 2) S dX5_coatOn_33 (by decide) ?_
        exact ct_sub [1, 2, 0] rfl (ih x5 h)
      · exact ct_sub [2] rfl (hk0 l2 h)
set_option maxHeartbeats 4000000 in
set_option maxRecDepth 100000 in
noncomputable def fn_X5_coatOn (l0 : Option Nat) (l1 : Int32) (h : cz_H) : cz_Z := fn_X5_coatOn_2 l0 l1 (fun (e6 : Int32) (h7 : cz_H) => some (.inl (some (cz_i e6)), h7)) (fun (h8 : cz_H) => some (.inl (some (cz_i (-1))), h8)) 1000 0 h
set_option maxHeartbeats 4000000 in
set_option maxRecDepth 100000 in
theorem wk_X5_coatOn {K : cz_K} {D : cz_D} {h0 : cz_H} {oh : cz_O × cz_H} {l0 : Option Nat} {l1 : Int32} {h : cz_H} (S : cz_S K D h0 cX5_coatOn 3 "HeldCoatsModel" ((Option.some Jvm.ClassFile.FieldType.int)) "coatOn" ([])) : cz_T K D 2 h0 oh 3 (fn_X5_coatOn l0 l1 h) h 0 [(0, cz_r l0), (1, cz_i l1)] [] := by
  unfold fn_X5_coatOn
  refine ct_iconst (v := 0) S dX5_coatOn_0 kI_0 ?_
  refine ct_istore_n (L' := [(2, cz_i 0), (0, cz_r l0), (1, cz_i l1)]) S dX5_coatOn_1 rfl (by decide) rfl ?_
  refine ct_sub [1, 2, 0] (L' := [(0, cz_r l0), (1, cz_i l1), (2, cz_i 0)]) rfl (wk_X5_coatOn_2 S ?_ ?_ 1000 0 h)
  · intro e6 h7
    refine ct_iload_n (k := 0) S dX5_coatOn_28 rfl rfl ?_
    exact ct_iret S rfl dX5_coatOn_29
  · intro h8
    refine ct_iconst (v := (-1)) S dX5_coatOn_36 kI_m1 ?_
    exact ct_iret S rfl dX5_coatOn_37
theorem mt_X5_coatOn {l : Launch} {D : cz_D} {l0 : Option Nat} {l1 : Int32} {h : cz_H} {oh : cz_O × cz_H} (hz : fn_X5_coatOn l0 l1 h = some oh) : cz_M l D yX5_coatOn (ws_ yX5_coatOn cX5_coatOn 3 ((Option.some Jvm.ClassFile.FieldType.int))) 2 [cz_r l0, cz_i l1] h oh := cz_met (plainFor_of_name (by decide)) (Nat.le_of_ble_eq_true rfl) hz (fun K hl S => wk_X5_coatOn S)
/-! HeldCoatsModel.whoseOn(I)I -/
def dkwX5_whoseOn_1 : List UInt8 := [46, 172]
abbrev dktX5_whoseOn_1 : List UInt8 := dkwX5_whoseOn_1 ++ []
def dkwX5_whoseOn_0 : List UInt8 := [42, 27, 182, 0, 238, 156, 0, 7, 2, 167, 0, 16, 42, 180, 0, 33, 16, 22, 42, 27, 182, 0, 238, 96]
abbrev dktX5_whoseOn_0 : List UInt8 := dkwX5_whoseOn_0 ++ dktX5_whoseOn_1
theorem dksX5_whoseOn_0 : cX5_whoseOn.data.toList.drop 0 = dktX5_whoseOn_0 := by decide +kernel
theorem dksX5_whoseOn_1 : cX5_whoseOn.data.toList.drop 24 = dktX5_whoseOn_1 := dk_seg dksX5_whoseOn_0 24 rfl rfl
theorem dX5_whoseOn_0 : decode cX5_whoseOn 0 = .ok (.aload_n 0, 1) := dk_42 (dk_at dksX5_whoseOn_0 0 rfl rfl)
theorem dX5_whoseOn_1 : decode cX5_whoseOn 1 = .ok (.iload_n 1, 1) := dk_27 (dk_at dksX5_whoseOn_0 1 rfl rfl)
theorem dX5_whoseOn_2 : decode cX5_whoseOn 2 = .ok (.invokevirtual 238, 3) := dk_182 0 238 (dk_at dksX5_whoseOn_0 2 rfl rfl)
theorem dX5_whoseOn_5 : decode cX5_whoseOn 5 = .ok (.ifCond .ge 7, 3) := dk_156 0 7 (dk_at dksX5_whoseOn_0 5 rfl rfl)
theorem dX5_whoseOn_8 : decode cX5_whoseOn 8 = .ok (.iconst (-1), 1) := dk_2 (dk_at dksX5_whoseOn_0 8 rfl rfl)
theorem dX5_whoseOn_9 : decode cX5_whoseOn 9 = .ok (.goto 16, 3) := dk_167 0 16 (dk_at dksX5_whoseOn_0 9 rfl rfl)
theorem dX5_whoseOn_12 : decode cX5_whoseOn 12 = .ok (.aload_n 0, 1) := dk_42 (dk_at dksX5_whoseOn_0 12 rfl rfl)
theorem dX5_whoseOn_13 : decode cX5_whoseOn 13 = .ok (.getfield 33, 3) := dk_180 0 33 (dk_at dksX5_whoseOn_0 13 rfl rfl)
theorem dX5_whoseOn_16 : decode cX5_whoseOn 16 = .ok (.bipush 22, 2) := dk_16 22 (dk_at dksX5_whoseOn_0 16 rfl rfl)
theorem dX5_whoseOn_18 : decode cX5_whoseOn 18 = .ok (.aload_n 0, 1) := dk_42 (dk_at dksX5_whoseOn_0 18 rfl rfl)
theorem dX5_whoseOn_19 : decode cX5_whoseOn 19 = .ok (.iload_n 1, 1) := dk_27 (dk_at dksX5_whoseOn_0 19 rfl rfl)
theorem dX5_whoseOn_20 : decode cX5_whoseOn 20 = .ok (.invokevirtual 238, 3) := dk_182 0 238 (dk_at dksX5_whoseOn_0 20 rfl rfl)
theorem dX5_whoseOn_23 : decode cX5_whoseOn 23 = .ok (.iadd, 1) := dk_96 (dk_at dksX5_whoseOn_0 23 rfl rfl)
theorem dX5_whoseOn_24 : decode cX5_whoseOn 24 = .ok (.iaload, 1) := dk_46 (dk_at dksX5_whoseOn_1 0 rfl rfl)
theorem dX5_whoseOn_25 : decode cX5_whoseOn 25 = .ok (.ireturn, 1) := dk_172 (dk_at dksX5_whoseOn_1 1 rfl rfl)
theorem se_HeldCoatsModel_coatOn__I_I_HeldCoatsModel : ∀ c ∈ ([5] : List Nat), ∃ q : vw_C, cz_cl[c]? = some q ∧ Cond.selects q.1 (⟨"HeldCoatsModel", "coatOn", "(I)I"⟩ : MethodName) (⟨"HeldCoatsModel", "coatOn", "(I)I"⟩ : MethodName) ∈ lw_all := List.forall_mem_cons.mpr ⟨⟨_, cz_cl5, qs64⟩, fun _ h => absurd h List.not_mem_nil⟩
theorem md_X5_coatOn : cz_md yX5_coatOn 3 (ws_ yX5_coatOn cX5_coatOn 3 ((Option.some Jvm.ClassFile.FieldType.int))) 1 := ⟨cz_ws_code q2167, q123, ⟨by decide, by decide, by decide +kernel⟩, by decide⟩
theorem kB_22 : (Int8.ofInt (22)).toInt32 = 22 := by decide
set_option maxHeartbeats 4000000 in
set_option maxRecDepth 100000 in
noncomputable def fn_X5_whoseOn (l0 : Option Nat) (l1 : Int32) (h : cz_H) : cz_Z := cz_rc h l0 [5] (cz_cI (fn_X5_coatOn l0 l1 h) (fun x8 h7 => (if 0 ≤ x8 then cz_getR h7 l0 [(5, 6)] (fun r9 => cz_rc h7 l0 [5] (cz_cI (fn_X5_coatOn l0 l1 h7) (fun x17 h16 => cz_iald h16 r9 ((22 : Int32) + x17) (fun x18 => some (.inl (some (cz_i x18)), h16))))) else some (.inl (some (cz_i (-1))), h7))))
set_option maxHeartbeats 4000000 in
set_option maxRecDepth 100000 in
theorem wk_X5_whoseOn {K : cz_K} {D : cz_D} {h0 : cz_H} {oh : cz_O × cz_H} {l0 : Option Nat} {l1 : Int32} {h : cz_H} (S : cz_S K D h0 cX5_whoseOn 2 "HeldCoatsModel" ((Option.some Jvm.ClassFile.FieldType.int)) "whoseOn" ([])) : cz_T K D 3 h0 oh 2 (fn_X5_whoseOn l0 l1 h) h 0 [(0, cz_r l0), (1, cz_i l1)] [] := by
  unfold fn_X5_whoseOn
  refine ct_aload_n (k := 0) S dX5_whoseOn_0 rfl rfl ?_
  refine ct_iload_n (k := 1) S dX5_whoseOn_1 rfl rfl ?_
  refine ct_rc (fun b1 ci2 V3 hb4 hc5 hi6 => ?_)
  refine ct_cI (st := []) (cg_virtual (av := [cz_i l1]) S hb4 hc5 hi6 (fun _ e => mt_X5_coatOn e) md_X5_coatOn q2164 q2166 se_HeldCoatsModel_coatOn__I_I_HeldCoatsModel (by decide) (Nat.le_of_ble_eq_true rfl) rfl dX5_whoseOn_2) (fun x8 h7 => ?_)
  refine ct_if_ge (tgt := 12) S dX5_whoseOn_5 (by decide) ?_ ?_
  · refine ct_aload_n (k := 0) S dX5_whoseOn_12 rfl rfl ?_
    refine ct_getR S fw_X5_33 dX5_whoseOn_13 (fun r9 => ?_)
    refine ct_bipush (v := 22) S dX5_whoseOn_16 kB_22 ?_
    refine ct_aload_n (k := 0) S dX5_whoseOn_18 rfl rfl ?_
    refine ct_iload_n (k := 1) S dX5_whoseOn_19 rfl rfl ?_
    refine ct_rc (fun b10 ci11 V12 hb13 hc14 hi15 => ?_)
    refine ct_cI (st := [cz_i 22, cz_r r9]) (cg_virtual (av := [cz_i l1]) S hb13 hc14 hi15 (fun _ e => mt_X5_coatOn e) md_X5_coatOn q2164 q2166 se_HeldCoatsModel_coatOn__I_I_HeldCoatsModel (by decide) (Nat.le_of_ble_eq_true rfl) rfl dX5_whoseOn_20) (fun x17 h16 => ?_)
    refine ct_iadd S dX5_whoseOn_23 ?_
    refine ct_iald S dX5_whoseOn_24 (fun x18 => ?_)
    exact ct_iret S rfl dX5_whoseOn_25
  · refine ct_iconst (v := (-1)) S dX5_whoseOn_8 kI_m1 ?_
    refine ct_goto (tgt := 25) S dX5_whoseOn_9 (by decide) ?_
    exact ct_iret S rfl dX5_whoseOn_25
theorem mt_X5_whoseOn {l : Launch} {D : cz_D} {l0 : Option Nat} {l1 : Int32} {h : cz_H} {oh : cz_O × cz_H} (hz : fn_X5_whoseOn l0 l1 h = some oh) : cz_M l D yX5_whoseOn (ws_ yX5_whoseOn cX5_whoseOn 2 ((Option.some Jvm.ClassFile.FieldType.int))) 3 [cz_r l0, cz_i l1] h oh := cz_met (plainFor_of_name (by decide)) (Nat.le_of_ble_eq_true rfl) hz (fun K hl S => wk_X5_whoseOn S)
/-! HeldCoatsModel.rulerBy(Z)I -/
def dkwX5_rulerBy_4 : List UInt8 := [167, 255, 170, 28, 172]
abbrev dktX5_rulerBy_4 : List UInt8 := dkwX5_rulerBy_4 ++ []
def dkwX5_rulerBy_3 : List UInt8 := [132, 6, 1, 167, 255, 212, 21, 5, 29, 163, 0, 6, 167, 0, 9, 21, 5, 62, 21, 4, 61, 132, 4, 1]
abbrev dktX5_rulerBy_3 : List UInt8 := dkwX5_rulerBy_3 ++ dktX5_rulerBy_4
def dkwX5_rulerBy_2 : List UInt8 := [21, 4, 160, 0, 16, 42, 180, 0, 33, 16, 8, 21, 6, 96, 46, 167, 0, 4, 3, 96, 54, 5]
abbrev dktX5_rulerBy_2 : List UInt8 := dkwX5_rulerBy_2 ++ dktX5_rulerBy_3
def dkwX5_rulerBy_1 : List UInt8 := [54, 5, 3, 54, 6, 21, 6, 42, 180, 0, 33, 3, 46, 162, 0, 39, 21, 5, 42, 21, 6, 182, 0, 244]
abbrev dktX5_rulerBy_1 : List UInt8 := dkwX5_rulerBy_1 ++ dktX5_rulerBy_2
def dkwX5_rulerBy_0 : List UInt8 := [2, 61, 3, 62, 3, 54, 4, 21, 4, 42, 180, 0, 33, 4, 46, 162, 0, 81, 27, 153, 0, 77, 3]
abbrev dktX5_rulerBy_0 : List UInt8 := dkwX5_rulerBy_0 ++ dktX5_rulerBy_1
theorem dksX5_rulerBy_0 : cX5_rulerBy.data.toList.drop 0 = dktX5_rulerBy_0 := by decide +kernel
theorem dksX5_rulerBy_1 : cX5_rulerBy.data.toList.drop 23 = dktX5_rulerBy_1 := dk_seg dksX5_rulerBy_0 23 rfl rfl
theorem dksX5_rulerBy_2 : cX5_rulerBy.data.toList.drop 47 = dktX5_rulerBy_2 := dk_seg dksX5_rulerBy_1 24 rfl rfl
theorem dksX5_rulerBy_3 : cX5_rulerBy.data.toList.drop 69 = dktX5_rulerBy_3 := dk_seg dksX5_rulerBy_2 22 rfl rfl
theorem dksX5_rulerBy_4 : cX5_rulerBy.data.toList.drop 93 = dktX5_rulerBy_4 := dk_seg dksX5_rulerBy_3 24 rfl rfl
theorem dX5_rulerBy_0 : decode cX5_rulerBy 0 = .ok (.iconst (-1), 1) := dk_2 (dk_at dksX5_rulerBy_0 0 rfl rfl)
theorem dX5_rulerBy_1 : decode cX5_rulerBy 1 = .ok (.istore_n 2, 1) := dk_61 (dk_at dksX5_rulerBy_0 1 rfl rfl)
theorem dX5_rulerBy_2 : decode cX5_rulerBy 2 = .ok (.iconst 0, 1) := dk_3 (dk_at dksX5_rulerBy_0 2 rfl rfl)
theorem dX5_rulerBy_3 : decode cX5_rulerBy 3 = .ok (.istore_n 3, 1) := dk_62 (dk_at dksX5_rulerBy_0 3 rfl rfl)
theorem dX5_rulerBy_4 : decode cX5_rulerBy 4 = .ok (.iconst 0, 1) := dk_3 (dk_at dksX5_rulerBy_0 4 rfl rfl)
theorem dX5_rulerBy_5 : decode cX5_rulerBy 5 = .ok (.istore 4, 2) := dk_54 4 (dk_at dksX5_rulerBy_0 5 rfl rfl)
theorem dX5_rulerBy_7 : decode cX5_rulerBy 7 = .ok (.iload 4, 2) := dk_21 4 (dk_at dksX5_rulerBy_0 7 rfl rfl)
theorem dX5_rulerBy_9 : decode cX5_rulerBy 9 = .ok (.aload_n 0, 1) := dk_42 (dk_at dksX5_rulerBy_0 9 rfl rfl)
theorem dX5_rulerBy_10 : decode cX5_rulerBy 10 = .ok (.getfield 33, 3) := dk_180 0 33 (dk_at dksX5_rulerBy_0 10 rfl rfl)
theorem dX5_rulerBy_13 : decode cX5_rulerBy 13 = .ok (.iconst 1, 1) := dk_4 (dk_at dksX5_rulerBy_0 13 rfl rfl)
theorem dX5_rulerBy_14 : decode cX5_rulerBy 14 = .ok (.iaload, 1) := dk_46 (dk_at dksX5_rulerBy_0 14 rfl rfl)
theorem dX5_rulerBy_15 : decode cX5_rulerBy 15 = .ok (.if_icmp .ge 81, 3) := dk_162 0 81 (dk_at dksX5_rulerBy_0 15 rfl rfl)
theorem dX5_rulerBy_18 : decode cX5_rulerBy 18 = .ok (.iload_n 1, 1) := dk_27 (dk_at dksX5_rulerBy_0 18 rfl rfl)
theorem dX5_rulerBy_19 : decode cX5_rulerBy 19 = .ok (.ifCond .eq 77, 3) := dk_153 0 77 (dk_at dksX5_rulerBy_0 19 rfl rfl)
theorem dX5_rulerBy_22 : decode cX5_rulerBy 22 = .ok (.iconst 0, 1) := dk_3 (dk_at dksX5_rulerBy_0 22 rfl rfl)
theorem dX5_rulerBy_23 : decode cX5_rulerBy 23 = .ok (.istore 5, 2) := dk_54 5 (dk_at dksX5_rulerBy_1 0 rfl rfl)
theorem dX5_rulerBy_25 : decode cX5_rulerBy 25 = .ok (.iconst 0, 1) := dk_3 (dk_at dksX5_rulerBy_1 2 rfl rfl)
theorem dX5_rulerBy_26 : decode cX5_rulerBy 26 = .ok (.istore 6, 2) := dk_54 6 (dk_at dksX5_rulerBy_1 3 rfl rfl)
theorem dX5_rulerBy_28 : decode cX5_rulerBy 28 = .ok (.iload 6, 2) := dk_21 6 (dk_at dksX5_rulerBy_1 5 rfl rfl)
theorem dX5_rulerBy_30 : decode cX5_rulerBy 30 = .ok (.aload_n 0, 1) := dk_42 (dk_at dksX5_rulerBy_1 7 rfl rfl)
theorem dX5_rulerBy_31 : decode cX5_rulerBy 31 = .ok (.getfield 33, 3) := dk_180 0 33 (dk_at dksX5_rulerBy_1 8 rfl rfl)
theorem dX5_rulerBy_34 : decode cX5_rulerBy 34 = .ok (.iconst 0, 1) := dk_3 (dk_at dksX5_rulerBy_1 11 rfl rfl)
theorem dX5_rulerBy_35 : decode cX5_rulerBy 35 = .ok (.iaload, 1) := dk_46 (dk_at dksX5_rulerBy_1 12 rfl rfl)
theorem dX5_rulerBy_36 : decode cX5_rulerBy 36 = .ok (.if_icmp .ge 39, 3) := dk_162 0 39 (dk_at dksX5_rulerBy_1 13 rfl rfl)
theorem dX5_rulerBy_39 : decode cX5_rulerBy 39 = .ok (.iload 5, 2) := dk_21 5 (dk_at dksX5_rulerBy_1 16 rfl rfl)
theorem dX5_rulerBy_41 : decode cX5_rulerBy 41 = .ok (.aload_n 0, 1) := dk_42 (dk_at dksX5_rulerBy_1 18 rfl rfl)
theorem dX5_rulerBy_42 : decode cX5_rulerBy 42 = .ok (.iload 6, 2) := dk_21 6 (dk_at dksX5_rulerBy_1 19 rfl rfl)
theorem dX5_rulerBy_44 : decode cX5_rulerBy 44 = .ok (.invokevirtual 244, 3) := dk_182 0 244 (dk_at dksX5_rulerBy_1 21 rfl rfl)
theorem dX5_rulerBy_47 : decode cX5_rulerBy 47 = .ok (.iload 4, 2) := dk_21 4 (dk_at dksX5_rulerBy_2 0 rfl rfl)
theorem dX5_rulerBy_49 : decode cX5_rulerBy 49 = .ok (.if_icmp .ne 16, 3) := dk_160 0 16 (dk_at dksX5_rulerBy_2 2 rfl rfl)
theorem dX5_rulerBy_52 : decode cX5_rulerBy 52 = .ok (.aload_n 0, 1) := dk_42 (dk_at dksX5_rulerBy_2 5 rfl rfl)
theorem dX5_rulerBy_53 : decode cX5_rulerBy 53 = .ok (.getfield 33, 3) := dk_180 0 33 (dk_at dksX5_rulerBy_2 6 rfl rfl)
theorem dX5_rulerBy_56 : decode cX5_rulerBy 56 = .ok (.bipush 8, 2) := dk_16 8 (dk_at dksX5_rulerBy_2 9 rfl rfl)
theorem dX5_rulerBy_58 : decode cX5_rulerBy 58 = .ok (.iload 6, 2) := dk_21 6 (dk_at dksX5_rulerBy_2 11 rfl rfl)
theorem dX5_rulerBy_60 : decode cX5_rulerBy 60 = .ok (.iadd, 1) := dk_96 (dk_at dksX5_rulerBy_2 13 rfl rfl)
theorem dX5_rulerBy_61 : decode cX5_rulerBy 61 = .ok (.iaload, 1) := dk_46 (dk_at dksX5_rulerBy_2 14 rfl rfl)
theorem dX5_rulerBy_62 : decode cX5_rulerBy 62 = .ok (.goto 4, 3) := dk_167 0 4 (dk_at dksX5_rulerBy_2 15 rfl rfl)
theorem dX5_rulerBy_65 : decode cX5_rulerBy 65 = .ok (.iconst 0, 1) := dk_3 (dk_at dksX5_rulerBy_2 18 rfl rfl)
theorem dX5_rulerBy_66 : decode cX5_rulerBy 66 = .ok (.iadd, 1) := dk_96 (dk_at dksX5_rulerBy_2 19 rfl rfl)
theorem dX5_rulerBy_67 : decode cX5_rulerBy 67 = .ok (.istore 5, 2) := dk_54 5 (dk_at dksX5_rulerBy_2 20 rfl rfl)
theorem dX5_rulerBy_69 : decode cX5_rulerBy 69 = .ok (.iinc 6 1, 3) := dk_132 6 1 (dk_at dksX5_rulerBy_3 0 rfl rfl)
theorem dX5_rulerBy_72 : decode cX5_rulerBy 72 = .ok (.goto (-44), 3) := dk_167 255 212 (dk_at dksX5_rulerBy_3 3 rfl rfl)
theorem dX5_rulerBy_75 : decode cX5_rulerBy 75 = .ok (.iload 5, 2) := dk_21 5 (dk_at dksX5_rulerBy_3 6 rfl rfl)
theorem dX5_rulerBy_77 : decode cX5_rulerBy 77 = .ok (.iload_n 3, 1) := dk_29 (dk_at dksX5_rulerBy_3 8 rfl rfl)
theorem dX5_rulerBy_78 : decode cX5_rulerBy 78 = .ok (.if_icmp .gt 6, 3) := dk_163 0 6 (dk_at dksX5_rulerBy_3 9 rfl rfl)
theorem dX5_rulerBy_81 : decode cX5_rulerBy 81 = .ok (.goto 9, 3) := dk_167 0 9 (dk_at dksX5_rulerBy_3 12 rfl rfl)
theorem dX5_rulerBy_84 : decode cX5_rulerBy 84 = .ok (.iload 5, 2) := dk_21 5 (dk_at dksX5_rulerBy_3 15 rfl rfl)
theorem dX5_rulerBy_86 : decode cX5_rulerBy 86 = .ok (.istore_n 3, 1) := dk_62 (dk_at dksX5_rulerBy_3 17 rfl rfl)
theorem dX5_rulerBy_87 : decode cX5_rulerBy 87 = .ok (.iload 4, 2) := dk_21 4 (dk_at dksX5_rulerBy_3 18 rfl rfl)
theorem dX5_rulerBy_89 : decode cX5_rulerBy 89 = .ok (.istore_n 2, 1) := dk_61 (dk_at dksX5_rulerBy_3 20 rfl rfl)
theorem dX5_rulerBy_90 : decode cX5_rulerBy 90 = .ok (.iinc 4 1, 3) := dk_132 4 1 (dk_at dksX5_rulerBy_3 21 rfl rfl)
theorem dX5_rulerBy_93 : decode cX5_rulerBy 93 = .ok (.goto (-86), 3) := dk_167 255 170 (dk_at dksX5_rulerBy_4 0 rfl rfl)
theorem dX5_rulerBy_96 : decode cX5_rulerBy 96 = .ok (.iload_n 2, 1) := dk_28 (dk_at dksX5_rulerBy_4 3 rfl rfl)
theorem dX5_rulerBy_97 : decode cX5_rulerBy 97 = .ok (.ireturn, 1) := dk_172 (dk_at dksX5_rulerBy_4 4 rfl rfl)
theorem se_HeldCoatsModel_whoseOn__I_I_HeldCoatsModel : ∀ c ∈ ([5] : List Nat), ∃ q : vw_C, cz_cl[c]? = some q ∧ Cond.selects q.1 (⟨"HeldCoatsModel", "whoseOn", "(I)I"⟩ : MethodName) (⟨"HeldCoatsModel", "whoseOn", "(I)I"⟩ : MethodName) ∈ lw_all := List.forall_mem_cons.mpr ⟨⟨_, cz_cl5, qs68⟩, fun _ h => absurd h List.not_mem_nil⟩
theorem md_X5_whoseOn : cz_md yX5_whoseOn 2 (ws_ yX5_whoseOn cX5_whoseOn 2 ((Option.some Jvm.ClassFile.FieldType.int))) 1 := ⟨cz_ws_code q2183, q123, ⟨by decide, by decide, by decide +kernel⟩, by decide⟩
theorem kB_8 : (Int8.ofInt (8)).toInt32 = 8 := by decide
set_option maxHeartbeats 4000000 in
set_option maxRecDepth 100000 in
noncomputable def fn_X5_rulerBy_28 (l0 : Option Nat) (l4 : Int32) (k0 : Int32 → cz_H → cz_Z) : Nat → Int32 → Int32 → cz_H → cz_Z
  | 0, _, _, _ => none
  | n + 1, l5, l6, h => cz_getR h l0 [(5, 6)] (fun r3 => cz_iald h r3 0 (fun x4 => (if x4 ≤ l6 then k0 l5 h else cz_rc h l0 [5] (cz_cI (fn_X5_whoseOn l0 l6 h) (fun x12 h11 => (if x12 = l4 then cz_getR h11 l0 [(5, 6)] (fun r15 => cz_iald h11 r15 ((8 : Int32) + l6) (fun x16 => cz_leti (l5 + x16) (fun x17 => cz_leti (l6 + 1) (fun x18 => fn_X5_rulerBy_28 l0 l4 k0 n x17 x18 h11)))) else cz_leti (l5 + 0) (fun x13 => cz_leti (l6 + 1) (fun x14 => fn_X5_rulerBy_28 l0 l4 k0 n x13 x14 h11))))))))
set_option maxHeartbeats 4000000 in
set_option maxRecDepth 100000 in
theorem wk_X5_rulerBy_28 {K : cz_K} {D : cz_D} {h0 : cz_H} {oh : cz_O × cz_H} {l0 : Option Nat} {l4 : Int32} {l1 : Int32} {l2 : Int32} {l3 : Int32} {k0 : Int32 → cz_H → cz_Z} (S : cz_S K D h0 cX5_rulerBy 7 "HeldCoatsModel" ((Option.some Jvm.ClassFile.FieldType.int)) "rulerBy" ([])) (hk0 : ∀ (e5 : Int32) (h : cz_H), cz_T K D 4 h0 oh 7 (k0 e5 h) h 75 [(0, cz_r l0), (1, cz_i l1), (2, cz_i l2), (3, cz_i l3), (4, cz_i l4), (5, cz_i e5)] []) : ∀ (n : Nat) (l5 : Int32) (l6 : Int32) (h : cz_H), cz_T K D 4 h0 oh 7 (fn_X5_rulerBy_28 l0 l4 k0 n l5 l6 h) h 28 [(0, cz_r l0), (1, cz_i l1), (2, cz_i l2), (3, cz_i l3), (4, cz_i l4), (5, cz_i l5), (6, cz_i l6)] [] := by
  intro n
  induction n with
  | zero => intros; exact ct_none
  | succ n ih =>
    intro l5 l6 h
    rw [fn_X5_rulerBy_28]
    refine ct_iload (k := 6) S dX5_rulerBy_28 rfl ?_
    refine ct_aload_n (k := 0) S dX5_rulerBy_30 rfl rfl ?_
    refine ct_getR S fw_X5_33 dX5_rulerBy_31 (fun r3 => ?_)
    refine ct_iconst (v := 0) S dX5_rulerBy_34 kI_0 ?_
    refine ct_iald S dX5_rulerBy_35 (fun x4 => ?_)
    refine ct_icmp_ge (tgt := 75) S dX5_rulerBy_36 (by decide) ?_ ?_
    · exact ct_sub [0, 1, 2, 3, 4, 5] rfl (hk0 l5 h)
    · refine ct_iload (k := 5) S dX5_rulerBy_39 rfl ?_
      refine ct_aload_n (k := 0) S dX5_rulerBy_41 rfl rfl ?_
      refine ct_iload (k := 6) S dX5_rulerBy_42 rfl ?_
      refine ct_rc (fun b5 ci6 V7 hb8 hc9 hi10 => ?_)
      refine ct_cI (st := [cz_i l5]) (cg_virtual (av := [cz_i l6]) S hb8 hc9 hi10 (fun _ e => mt_X5_whoseOn e) md_X5_whoseOn q2180 q2182 se_HeldCoatsModel_whoseOn__I_I_HeldCoatsModel (by decide) (Nat.le_of_ble_eq_true rfl) rfl dX5_rulerBy_44) (fun x12 h11 => ?_)
      refine ct_iload (k := 4) S dX5_rulerBy_47 rfl ?_
      refine ct_icmp_ne (tgt := 65) S dX5_rulerBy_49 (by decide) ?_ ?_
      · refine ct_iconst (v := 0) S dX5_rulerBy_65 kI_0 ?_
        refine ct_iadd S dX5_rulerBy_66 ?_
        refine ct_leti (fun x13 => ?_)
        refine ct_istore (L' := [(5, cz_i x13), (0, cz_r l0), (1, cz_i l1), (2, cz_i l2), (3, cz_i l3), (4, cz_i l4), (6, cz_i l6)]) S dX5_rulerBy_67 (by decide) rfl ?_
        refine ct_iincL (j := 6) (L2 := fun x14 => [(6, cz_i x14), (5, cz_i x13), (0, cz_r l0), (1, cz_i l1), (2, cz_i l2), (3, cz_i l3), (4, cz_i l4)]) S dX5_rulerBy_69 rfl kI_1 (by decide) (fun _ => rfl) (fun x14 => ?_)
        refine ct_goto (tgt := 28) S dX5_rulerBy_72 (by decide) ?_
        exact ct_sub [2, 3, 4, 5, 6, 1, 0] rfl (ih x13 x14 h11)
      · refine ct_aload_n (k := 0) S dX5_rulerBy_52 rfl rfl ?_
        refine ct_getR S fw_X5_33 dX5_rulerBy_53 (fun r15 => ?_)
        refine ct_bipush (v := 8) S dX5_rulerBy_56 kB_8 ?_
        refine ct_iload (k := 6) S dX5_rulerBy_58 rfl ?_
        refine ct_iadd S dX5_rulerBy_60 ?_
        refine ct_iald S dX5_rulerBy_61 (fun x16 => ?_)
        refine ct_goto (tgt := 66) S dX5_rulerBy_62 (by decide) ?_
        refine ct_iadd S dX5_rulerBy_66 ?_
        refine ct_leti (fun x17 => ?_)
        refine ct_istore (L' := [(5, cz_i x17), (0, cz_r l0), (1, cz_i l1), (2, cz_i l2), (3, cz_i l3), (4, cz_i l4), (6, cz_i l6)]) S dX5_rulerBy_67 (by decide) rfl ?_
        refine ct_iincL (j := 6) (L2 := fun x18 => [(6, cz_i x18), (5, cz_i x17), (0, cz_r l0), (1, cz_i l1), (2, cz_i l2), (3, cz_i l3), (4, cz_i l4)]) S dX5_rulerBy_69 rfl kI_1 (by decide) (fun _ => rfl) (fun x18 => ?_)
        refine ct_goto (tgt := 28) S dX5_rulerBy_72 (by decide) ?_
        exact ct_sub [2, 3, 4, 5, 6, 1, 0] rfl (ih x17 x18 h11)
set_option maxHeartbeats 4000000 in
set_option maxRecDepth 100000 in
noncomputable def fn_X5_rulerBy_7 (l0 : Option Nat) (l1 : Int32) (k0 : Int32 → cz_H → cz_Z) : Nat → Int32 → Int32 → Int32 → cz_H → cz_Z
  | 0, _, _, _, _ => none
  | n + 1, l2, l3, l4, h => cz_getR h l0 [(5, 6)] (fun r1 => cz_iald h r1 1 (fun x2 => (if x2 ≤ l4 then k0 l2 h else (if l1 = 0 then k0 l2 h else fn_X5_rulerBy_28 l0 l4 (fun (e19 : Int32) (h20 : cz_H) => (if l3 < e19 then cz_leti (l4 + 1) (fun x21 => fn_X5_rulerBy_7 l0 l1 k0 n l4 e19 x21 h20) else cz_leti (l4 + 1) (fun x22 => fn_X5_rulerBy_7 l0 l1 k0 n l2 l3 x22 h20))) 1000 0 0 h))))
set_option maxHeartbeats 4000000 in
set_option maxRecDepth 100000 in
theorem wk_X5_rulerBy_7 {K : cz_K} {D : cz_D} {h0 : cz_H} {oh : cz_O × cz_H} {l0 : Option Nat} {l1 : Int32} {k0 : Int32 → cz_H → cz_Z} (S : cz_S K D h0 cX5_rulerBy 7 "HeldCoatsModel" ((Option.some Jvm.ClassFile.FieldType.int)) "rulerBy" ([])) (hk0 : ∀ (e2 : Int32) (h : cz_H), cz_T K D 4 h0 oh 7 (k0 e2 h) h 96 [(2, cz_i e2)] []) : ∀ (n : Nat) (l2 : Int32) (l3 : Int32) (l4 : Int32) (h : cz_H), cz_T K D 4 h0 oh 7 (fn_X5_rulerBy_7 l0 l1 k0 n l2 l3 l4 h) h 7 [(0, cz_r l0), (1, cz_i l1), (2, cz_i l2), (3, cz_i l3), (4, cz_i l4)] [] := by
  intro n
  induction n with
  | zero => intros; exact ct_none
  | succ n ih =>
    intro l2 l3 l4 h
    rw [fn_X5_rulerBy_7]
    refine ct_iload (k := 4) S dX5_rulerBy_7 rfl ?_
    refine ct_aload_n (k := 0) S dX5_rulerBy_9 rfl rfl ?_
    refine ct_getR S fw_X5_33 dX5_rulerBy_10 (fun r1 => ?_)
    refine ct_iconst (v := 1) S dX5_rulerBy_13 kI_1 ?_
    refine ct_iald S dX5_rulerBy_14 (fun x2 => ?_)
    refine ct_icmp_ge (tgt := 96) S dX5_rulerBy_15 (by decide) ?_ ?_
    · exact ct_sub [2] rfl (hk0 l2 h)
    · refine ct_iload_n (k := 1) S dX5_rulerBy_18 rfl rfl ?_
      refine ct_if_eq (tgt := 96) S dX5_rulerBy_19 (by decide) ?_ ?_
      · exact ct_sub [2] rfl (hk0 l2 h)
      · refine ct_iconst (v := 0) S dX5_rulerBy_22 kI_0 ?_
        refine ct_istore (L' := [(5, cz_i 0), (0, cz_r l0), (1, cz_i l1), (2, cz_i l2), (3, cz_i l3), (4, cz_i l4)]) S dX5_rulerBy_23 (by decide) rfl ?_
        refine ct_iconst (v := 0) S dX5_rulerBy_25 kI_0 ?_
        refine ct_istore (L' := [(6, cz_i 0), (5, cz_i 0), (0, cz_r l0), (1, cz_i l1), (2, cz_i l2), (3, cz_i l3), (4, cz_i l4)]) S dX5_rulerBy_26 (by decide) rfl ?_
        refine ct_sub [2, 3, 4, 5, 6, 1, 0] (L' := [(0, cz_r l0), (1, cz_i l1), (2, cz_i l2), (3, cz_i l3), (4, cz_i l4), (5, cz_i 0), (6, cz_i 0)]) rfl (wk_X5_rulerBy_28 S ?_ 1000 0 0 h)
        · intro e19 h20
          refine ct_iload (k := 5) S dX5_rulerBy_75 rfl ?_
          refine ct_iload_n (k := 3) S dX5_rulerBy_77 rfl rfl ?_
          refine ct_icmp_gt (tgt := 84) S dX5_rulerBy_78 (by decide) ?_ ?_
          · refine ct_iload (k := 5) S dX5_rulerBy_84 rfl ?_
            refine ct_istore_n (L' := [(3, cz_i e19), (0, cz_r l0), (1, cz_i l1), (2, cz_i l2), (4, cz_i l4), (5, cz_i e19)]) S dX5_rulerBy_86 rfl (by decide) rfl ?_
            refine ct_iload (k := 4) S dX5_rulerBy_87 rfl ?_
            refine ct_istore_n (L' := [(2, cz_i l4), (3, cz_i e19), (0, cz_r l0), (1, cz_i l1), (4, cz_i l4), (5, cz_i e19)]) S dX5_rulerBy_89 rfl (by decide) rfl ?_
            refine ct_iincL (j := 4) (L2 := fun x21 => [(4, cz_i x21), (2, cz_i l4), (3, cz_i e19), (0, cz_r l0), (1, cz_i l1), (5, cz_i e19)]) S dX5_rulerBy_90 rfl kI_1 (by decide) (fun _ => rfl) (fun x21 => ?_)
            refine ct_goto (tgt := 7) S dX5_rulerBy_93 (by decide) ?_
            exact ct_sub [3, 4, 1, 2, 0] rfl (ih l4 e19 x21 h20)
          · refine ct_goto (tgt := 90) S dX5_rulerBy_81 (by decide) ?_
            refine ct_iincL (j := 4) (L2 := fun x22 => [(4, cz_i x22), (0, cz_r l0), (1, cz_i l1), (2, cz_i l2), (3, cz_i l3), (5, cz_i e19)]) S dX5_rulerBy_90 rfl kI_1 (by decide) (fun _ => rfl) (fun x22 => ?_)
            refine ct_goto (tgt := 7) S dX5_rulerBy_93 (by decide) ?_
            exact ct_sub [1, 2, 3, 4, 0] rfl (ih l2 l3 x22 h20)
set_option maxHeartbeats 4000000 in
set_option maxRecDepth 100000 in
noncomputable def fn_X5_rulerBy (l0 : Option Nat) (l1 : Int32) (h : cz_H) : cz_Z := fn_X5_rulerBy_7 l0 l1 (fun (e23 : Int32) (h24 : cz_H) => some (.inl (some (cz_i e23)), h24)) 1000 (-1) 0 0 h
set_option maxHeartbeats 4000000 in
set_option maxRecDepth 100000 in
theorem wk_X5_rulerBy {K : cz_K} {D : cz_D} {h0 : cz_H} {oh : cz_O × cz_H} {l0 : Option Nat} {l1 : Int32} {h : cz_H} (S : cz_S K D h0 cX5_rulerBy 7 "HeldCoatsModel" ((Option.some Jvm.ClassFile.FieldType.int)) "rulerBy" ([])) : cz_T K D 4 h0 oh 7 (fn_X5_rulerBy l0 l1 h) h 0 [(0, cz_r l0), (1, cz_i l1)] [] := by
  unfold fn_X5_rulerBy
  refine ct_iconst (v := (-1)) S dX5_rulerBy_0 kI_m1 ?_
  refine ct_istore_n (L' := [(2, cz_i (-1)), (0, cz_r l0), (1, cz_i l1)]) S dX5_rulerBy_1 rfl (by decide) rfl ?_
  refine ct_iconst (v := 0) S dX5_rulerBy_2 kI_0 ?_
  refine ct_istore_n (L' := [(3, cz_i 0), (2, cz_i (-1)), (0, cz_r l0), (1, cz_i l1)]) S dX5_rulerBy_3 rfl (by decide) rfl ?_
  refine ct_iconst (v := 0) S dX5_rulerBy_4 kI_0 ?_
  refine ct_istore (L' := [(4, cz_i 0), (3, cz_i 0), (2, cz_i (-1)), (0, cz_r l0), (1, cz_i l1)]) S dX5_rulerBy_5 (by decide) rfl ?_
  refine ct_sub [3, 4, 2, 1, 0] (L' := [(0, cz_r l0), (1, cz_i l1), (2, cz_i (-1)), (3, cz_i 0), (4, cz_i 0)]) rfl (wk_X5_rulerBy_7 S ?_ 1000 (-1) 0 0 h)
  · intro e23 h24
    refine ct_iload_n (k := 0) S dX5_rulerBy_96 rfl rfl ?_
    exact ct_iret S rfl dX5_rulerBy_97
theorem mt_X5_rulerBy {l : Launch} {D : cz_D} {l0 : Option Nat} {l1 : Int32} {h : cz_H} {oh : cz_O × cz_H} (hz : fn_X5_rulerBy l0 l1 h = some oh) : cz_M l D yX5_rulerBy (ws_ yX5_rulerBy cX5_rulerBy 7 ((Option.some Jvm.ClassFile.FieldType.int))) 4 [cz_r l0, cz_i l1] h oh := cz_met (plainFor_of_name (by decide)) (Nat.le_of_ble_eq_true rfl) hz (fun K hl S => wk_X5_rulerBy S)
/-! HeldCoatsModel.ruler()I -/
def dkwX5_ruler_0 : List UInt8 := [42, 42, 182, 0, 241, 154, 0, 7, 4, 167, 0, 4, 3, 182, 1, 4, 172]
abbrev dktX5_ruler_0 : List UInt8 := dkwX5_ruler_0 ++ []
theorem dksX5_ruler_0 : cX5_ruler.data.toList.drop 0 = dktX5_ruler_0 := by decide +kernel
theorem dX5_ruler_0 : decode cX5_ruler 0 = .ok (.aload_n 0, 1) := dk_42 (dk_at dksX5_ruler_0 0 rfl rfl)
theorem dX5_ruler_1 : decode cX5_ruler 1 = .ok (.aload_n 0, 1) := dk_42 (dk_at dksX5_ruler_0 1 rfl rfl)
theorem dX5_ruler_2 : decode cX5_ruler 2 = .ok (.invokevirtual 241, 3) := dk_182 0 241 (dk_at dksX5_ruler_0 2 rfl rfl)
theorem dX5_ruler_5 : decode cX5_ruler 5 = .ok (.ifCond .ne 7, 3) := dk_154 0 7 (dk_at dksX5_ruler_0 5 rfl rfl)
theorem dX5_ruler_8 : decode cX5_ruler 8 = .ok (.iconst 1, 1) := dk_4 (dk_at dksX5_ruler_0 8 rfl rfl)
theorem dX5_ruler_9 : decode cX5_ruler 9 = .ok (.goto 4, 3) := dk_167 0 4 (dk_at dksX5_ruler_0 9 rfl rfl)
theorem dX5_ruler_12 : decode cX5_ruler 12 = .ok (.iconst 0, 1) := dk_3 (dk_at dksX5_ruler_0 12 rfl rfl)
theorem dX5_ruler_13 : decode cX5_ruler 13 = .ok (.invokevirtual 260, 3) := dk_182 1 4 (dk_at dksX5_ruler_0 13 rfl rfl)
theorem dX5_ruler_16 : decode cX5_ruler 16 = .ok (.ireturn, 1) := dk_172 (dk_at dksX5_ruler_0 16 rfl rfl)
theorem se_HeldCoatsModel_isSummer___Z_HeldCoatsModel : ∀ c ∈ ([5] : List Nat), ∃ q : vw_C, cz_cl[c]? = some q ∧ Cond.selects q.1 (⟨"HeldCoatsModel", "isSummer", "()Z"⟩ : MethodName) (⟨"HeldCoatsModel", "isSummer", "()Z"⟩ : MethodName) ∈ lw_all := List.forall_mem_cons.mpr ⟨⟨_, cz_cl5, qs66⟩, fun _ h => absurd h List.not_mem_nil⟩
theorem md_X5_isSummer : cz_md yX5_isSummer 1 (ws_ yX5_isSummer cX5_isSummer 1 ((Option.some Jvm.ClassFile.FieldType.boolean))) 0 := ⟨cz_ws_code q2175, q123, ⟨by decide, by decide, by decide +kernel⟩, by decide⟩
theorem se_HeldCoatsModel_rulerBy__Z_I_HeldCoatsModel : ∀ c ∈ ([5] : List Nat), ∃ q : vw_C, cz_cl[c]? = some q ∧ Cond.selects q.1 (⟨"HeldCoatsModel", "rulerBy", "(Z)I"⟩ : MethodName) (⟨"HeldCoatsModel", "rulerBy", "(Z)I"⟩ : MethodName) ∈ lw_all := List.forall_mem_cons.mpr ⟨⟨_, cz_cl5, qs77⟩, fun _ h => absurd h List.not_mem_nil⟩
theorem md_X5_rulerBy : cz_md yX5_rulerBy 7 (ws_ yX5_rulerBy cX5_rulerBy 7 ((Option.some Jvm.ClassFile.FieldType.int))) 1 := ⟨cz_ws_code q2234, q123, ⟨by decide, by decide, by decide +kernel⟩, by decide⟩
set_option maxHeartbeats 4000000 in
set_option maxRecDepth 100000 in
noncomputable def fn_X5_ruler (l0 : Option Nat) (h : cz_H) : cz_Z := cz_rc h l0 [5] (cz_cI (fn_X5_isSummer l0 h) (fun x8 h7 => (if x8 = 0 then cz_rc h7 l0 [5] (cz_cI (fn_X5_rulerBy l0 1 h7) (fun x24 h23 => some (.inl (some (cz_i x24)), h23))) else cz_rc h7 l0 [5] (cz_cI (fn_X5_rulerBy l0 0 h7) (fun x16 h15 => some (.inl (some (cz_i x16)), h15))))))
set_option maxHeartbeats 4000000 in
set_option maxRecDepth 100000 in
theorem wk_X5_ruler {K : cz_K} {D : cz_D} {h0 : cz_H} {oh : cz_O × cz_H} {l0 : Option Nat} {h : cz_H} (S : cz_S K D h0 cX5_ruler 1 "HeldCoatsModel" ((Option.some Jvm.ClassFile.FieldType.int)) "ruler" ([])) : cz_T K D 5 h0 oh 1 (fn_X5_ruler l0 h) h 0 [(0, cz_r l0)] [] := by
  unfold fn_X5_ruler
  refine ct_aload_n (k := 0) S dX5_ruler_0 rfl rfl ?_
  refine ct_aload_n (k := 0) S dX5_ruler_1 rfl rfl ?_
  refine ct_rc (fun b1 ci2 V3 hb4 hc5 hi6 => ?_)
  refine ct_cI (st := [cz_r l0]) (cg_virtual (av := []) S hb4 hc5 hi6 (fun _ e => mt_X5_isSummer e) md_X5_isSummer q2172 q2174 se_HeldCoatsModel_isSummer___Z_HeldCoatsModel (by decide) (Nat.le_of_ble_eq_true rfl) rfl dX5_ruler_2) (fun x8 h7 => ?_)
  refine ct_if_ne (tgt := 12) S dX5_ruler_5 (by decide) ?_ ?_
  · refine ct_iconst (v := 0) S dX5_ruler_12 kI_0 ?_
    refine ct_rc (fun b9 ci10 V11 hb12 hc13 hi14 => ?_)
    refine ct_cI (st := []) (cg_virtual (av := [cz_i 0]) S hb12 hc13 hi14 (fun _ e => mt_X5_rulerBy e) md_X5_rulerBy q2231 q2233 se_HeldCoatsModel_rulerBy__Z_I_HeldCoatsModel (by decide) (Nat.le_of_ble_eq_true rfl) rfl dX5_ruler_13) (fun x16 h15 => ?_)
    exact ct_iret S rfl dX5_ruler_16
  · refine ct_iconst (v := 1) S dX5_ruler_8 kI_1 ?_
    refine ct_goto (tgt := 13) S dX5_ruler_9 (by decide) ?_
    refine ct_rc (fun b17 ci18 V19 hb20 hc21 hi22 => ?_)
    refine ct_cI (st := []) (cg_virtual (av := [cz_i 1]) S hb20 hc21 hi22 (fun _ e => mt_X5_rulerBy e) md_X5_rulerBy q2231 q2233 se_HeldCoatsModel_rulerBy__Z_I_HeldCoatsModel (by decide) (Nat.le_of_ble_eq_true rfl) rfl dX5_ruler_13) (fun x24 h23 => ?_)
    exact ct_iret S rfl dX5_ruler_16
theorem mt_X5_ruler {l : Launch} {D : cz_D} {l0 : Option Nat} {h : cz_H} {oh : cz_O × cz_H} (hz : fn_X5_ruler l0 h = some oh) : cz_M l D yX5_ruler (ws_ yX5_ruler cX5_ruler 1 ((Option.some Jvm.ClassFile.FieldType.int))) 5 [cz_r l0] h oh := cz_met (plainFor_of_name (by decide)) (Nat.le_of_ble_eq_true rfl) hz (fun K hl S => wk_X5_ruler S)
/-! HeldCoatsModel.day()V -/
def dkwX5_day_6 : List UInt8 := [132, 2, 1, 167, 255, 219, 42, 180, 0, 33, 16, 62, 92, 46, 4, 96, 79, 177]
abbrev dktX5_day_6 : List UInt8 := dkwX5_day_6 ++ []
def dkwX5_day_5 : List UInt8 := [180, 0, 33, 16, 65, 28, 96, 46, 16, 10, 16, 17, 184, 0, 171, 153, 0, 8, 42, 28, 182, 1, 39]
abbrev dktX5_day_5 : List UInt8 := dkwX5_day_5 ++ dktX5_day_6
def dkwX5_day_4 : List UInt8 := [104, 96, 79, 132, 2, 1, 167, 255, 220, 3, 61, 28, 42, 180, 0, 33, 5, 46, 162, 0, 33, 42]
abbrev dktX5_day_4 : List UInt8 := dkwX5_day_4 ++ dktX5_day_5
def dkwX5_day_3 : List UInt8 := [46, 162, 0, 32, 42, 180, 0, 33, 16, 97, 28, 96, 92, 46, 42, 28, 182, 1, 21, 42, 28, 182, 1, 21]
abbrev dktX5_day_3 : List UInt8 := dkwX5_day_3 ++ dktX5_day_4
def dkwX5_day_2 : List UInt8 := [42, 180, 0, 33, 16, 64, 42, 180, 0, 33, 16, 62, 46, 4, 96, 79, 3, 61, 28, 42, 180, 0, 33, 4]
abbrev dktX5_day_2 : List UInt8 := dkwX5_day_2 ++ dktX5_day_3
def dkwX5_day_1 : List UInt8 := [167, 0, 40, 42, 180, 0, 33, 16, 63, 92, 46, 4, 96, 79, 42, 180, 0, 33, 16, 64, 46, 154, 0, 19]
abbrev dktX5_day_1 : List UInt8 := dkwX5_day_1 ++ dktX5_day_2
def dkwX5_day_0 : List UInt8 := [42, 182, 1, 27, 60, 27, 155, 0, 19, 42, 180, 0, 33, 16, 103, 27, 96, 92, 46, 4, 96, 79]
abbrev dktX5_day_0 : List UInt8 := dkwX5_day_0 ++ dktX5_day_1
theorem dksX5_day_0 : cX5_day.data.toList.drop 0 = dktX5_day_0 := by decide +kernel
theorem dksX5_day_1 : cX5_day.data.toList.drop 22 = dktX5_day_1 := dk_seg dksX5_day_0 22 rfl rfl
theorem dksX5_day_2 : cX5_day.data.toList.drop 46 = dktX5_day_2 := dk_seg dksX5_day_1 24 rfl rfl
theorem dksX5_day_3 : cX5_day.data.toList.drop 70 = dktX5_day_3 := dk_seg dksX5_day_2 24 rfl rfl
theorem dksX5_day_4 : cX5_day.data.toList.drop 94 = dktX5_day_4 := dk_seg dksX5_day_3 24 rfl rfl
theorem dksX5_day_5 : cX5_day.data.toList.drop 116 = dktX5_day_5 := dk_seg dksX5_day_4 22 rfl rfl
theorem dksX5_day_6 : cX5_day.data.toList.drop 139 = dktX5_day_6 := dk_seg dksX5_day_5 23 rfl rfl
theorem dX5_day_0 : decode cX5_day 0 = .ok (.aload_n 0, 1) := dk_42 (dk_at dksX5_day_0 0 rfl rfl)
theorem dX5_day_1 : decode cX5_day 1 = .ok (.invokevirtual 283, 3) := dk_182 1 27 (dk_at dksX5_day_0 1 rfl rfl)
theorem dX5_day_4 : decode cX5_day 4 = .ok (.istore_n 1, 1) := dk_60 (dk_at dksX5_day_0 4 rfl rfl)
theorem dX5_day_5 : decode cX5_day 5 = .ok (.iload_n 1, 1) := dk_27 (dk_at dksX5_day_0 5 rfl rfl)
theorem dX5_day_6 : decode cX5_day 6 = .ok (.ifCond .lt 19, 3) := dk_155 0 19 (dk_at dksX5_day_0 6 rfl rfl)
theorem dX5_day_9 : decode cX5_day 9 = .ok (.aload_n 0, 1) := dk_42 (dk_at dksX5_day_0 9 rfl rfl)
theorem dX5_day_10 : decode cX5_day 10 = .ok (.getfield 33, 3) := dk_180 0 33 (dk_at dksX5_day_0 10 rfl rfl)
theorem dX5_day_13 : decode cX5_day 13 = .ok (.bipush 103, 2) := dk_16 103 (dk_at dksX5_day_0 13 rfl rfl)
theorem dX5_day_15 : decode cX5_day 15 = .ok (.iload_n 1, 1) := dk_27 (dk_at dksX5_day_0 15 rfl rfl)
theorem dX5_day_16 : decode cX5_day 16 = .ok (.iadd, 1) := dk_96 (dk_at dksX5_day_0 16 rfl rfl)
theorem dX5_day_17 : decode cX5_day 17 = .ok (.dup2, 1) := dk_92 (dk_at dksX5_day_0 17 rfl rfl)
theorem dX5_day_18 : decode cX5_day 18 = .ok (.iaload, 1) := dk_46 (dk_at dksX5_day_0 18 rfl rfl)
theorem dX5_day_19 : decode cX5_day 19 = .ok (.iconst 1, 1) := dk_4 (dk_at dksX5_day_0 19 rfl rfl)
theorem dX5_day_20 : decode cX5_day 20 = .ok (.iadd, 1) := dk_96 (dk_at dksX5_day_0 20 rfl rfl)
theorem dX5_day_21 : decode cX5_day 21 = .ok (.iastore, 1) := dk_79 (dk_at dksX5_day_0 21 rfl rfl)
theorem dX5_day_22 : decode cX5_day 22 = .ok (.goto 40, 3) := dk_167 0 40 (dk_at dksX5_day_1 0 rfl rfl)
theorem dX5_day_25 : decode cX5_day 25 = .ok (.aload_n 0, 1) := dk_42 (dk_at dksX5_day_1 3 rfl rfl)
theorem dX5_day_26 : decode cX5_day 26 = .ok (.getfield 33, 3) := dk_180 0 33 (dk_at dksX5_day_1 4 rfl rfl)
theorem dX5_day_29 : decode cX5_day 29 = .ok (.bipush 63, 2) := dk_16 63 (dk_at dksX5_day_1 7 rfl rfl)
theorem dX5_day_31 : decode cX5_day 31 = .ok (.dup2, 1) := dk_92 (dk_at dksX5_day_1 9 rfl rfl)
theorem dX5_day_32 : decode cX5_day 32 = .ok (.iaload, 1) := dk_46 (dk_at dksX5_day_1 10 rfl rfl)
theorem dX5_day_33 : decode cX5_day 33 = .ok (.iconst 1, 1) := dk_4 (dk_at dksX5_day_1 11 rfl rfl)
theorem dX5_day_34 : decode cX5_day 34 = .ok (.iadd, 1) := dk_96 (dk_at dksX5_day_1 12 rfl rfl)
theorem dX5_day_35 : decode cX5_day 35 = .ok (.iastore, 1) := dk_79 (dk_at dksX5_day_1 13 rfl rfl)
theorem dX5_day_36 : decode cX5_day 36 = .ok (.aload_n 0, 1) := dk_42 (dk_at dksX5_day_1 14 rfl rfl)
theorem dX5_day_37 : decode cX5_day 37 = .ok (.getfield 33, 3) := dk_180 0 33 (dk_at dksX5_day_1 15 rfl rfl)
theorem dX5_day_40 : decode cX5_day 40 = .ok (.bipush 64, 2) := dk_16 64 (dk_at dksX5_day_1 18 rfl rfl)
theorem dX5_day_42 : decode cX5_day 42 = .ok (.iaload, 1) := dk_46 (dk_at dksX5_day_1 20 rfl rfl)
theorem dX5_day_43 : decode cX5_day 43 = .ok (.ifCond .ne 19, 3) := dk_154 0 19 (dk_at dksX5_day_1 21 rfl rfl)
theorem dX5_day_46 : decode cX5_day 46 = .ok (.aload_n 0, 1) := dk_42 (dk_at dksX5_day_2 0 rfl rfl)
theorem dX5_day_47 : decode cX5_day 47 = .ok (.getfield 33, 3) := dk_180 0 33 (dk_at dksX5_day_2 1 rfl rfl)
theorem dX5_day_50 : decode cX5_day 50 = .ok (.bipush 64, 2) := dk_16 64 (dk_at dksX5_day_2 4 rfl rfl)
theorem dX5_day_52 : decode cX5_day 52 = .ok (.aload_n 0, 1) := dk_42 (dk_at dksX5_day_2 6 rfl rfl)
theorem dX5_day_53 : decode cX5_day 53 = .ok (.getfield 33, 3) := dk_180 0 33 (dk_at dksX5_day_2 7 rfl rfl)
theorem dX5_day_56 : decode cX5_day 56 = .ok (.bipush 62, 2) := dk_16 62 (dk_at dksX5_day_2 10 rfl rfl)
theorem dX5_day_58 : decode cX5_day 58 = .ok (.iaload, 1) := dk_46 (dk_at dksX5_day_2 12 rfl rfl)
theorem dX5_day_59 : decode cX5_day 59 = .ok (.iconst 1, 1) := dk_4 (dk_at dksX5_day_2 13 rfl rfl)
theorem dX5_day_60 : decode cX5_day 60 = .ok (.iadd, 1) := dk_96 (dk_at dksX5_day_2 14 rfl rfl)
theorem dX5_day_61 : decode cX5_day 61 = .ok (.iastore, 1) := dk_79 (dk_at dksX5_day_2 15 rfl rfl)
theorem dX5_day_62 : decode cX5_day 62 = .ok (.iconst 0, 1) := dk_3 (dk_at dksX5_day_2 16 rfl rfl)
theorem dX5_day_63 : decode cX5_day 63 = .ok (.istore_n 2, 1) := dk_61 (dk_at dksX5_day_2 17 rfl rfl)
theorem dX5_day_64 : decode cX5_day 64 = .ok (.iload_n 2, 1) := dk_28 (dk_at dksX5_day_2 18 rfl rfl)
theorem dX5_day_65 : decode cX5_day 65 = .ok (.aload_n 0, 1) := dk_42 (dk_at dksX5_day_2 19 rfl rfl)
theorem dX5_day_66 : decode cX5_day 66 = .ok (.getfield 33, 3) := dk_180 0 33 (dk_at dksX5_day_2 20 rfl rfl)
theorem dX5_day_69 : decode cX5_day 69 = .ok (.iconst 1, 1) := dk_4 (dk_at dksX5_day_2 23 rfl rfl)
theorem dX5_day_70 : decode cX5_day 70 = .ok (.iaload, 1) := dk_46 (dk_at dksX5_day_3 0 rfl rfl)
theorem dX5_day_71 : decode cX5_day 71 = .ok (.if_icmp .ge 32, 3) := dk_162 0 32 (dk_at dksX5_day_3 1 rfl rfl)
theorem dX5_day_74 : decode cX5_day 74 = .ok (.aload_n 0, 1) := dk_42 (dk_at dksX5_day_3 4 rfl rfl)
theorem dX5_day_75 : decode cX5_day 75 = .ok (.getfield 33, 3) := dk_180 0 33 (dk_at dksX5_day_3 5 rfl rfl)
theorem dX5_day_78 : decode cX5_day 78 = .ok (.bipush 97, 2) := dk_16 97 (dk_at dksX5_day_3 8 rfl rfl)
theorem dX5_day_80 : decode cX5_day 80 = .ok (.iload_n 2, 1) := dk_28 (dk_at dksX5_day_3 10 rfl rfl)
theorem dX5_day_81 : decode cX5_day 81 = .ok (.iadd, 1) := dk_96 (dk_at dksX5_day_3 11 rfl rfl)
theorem dX5_day_82 : decode cX5_day 82 = .ok (.dup2, 1) := dk_92 (dk_at dksX5_day_3 12 rfl rfl)
theorem dX5_day_83 : decode cX5_day 83 = .ok (.iaload, 1) := dk_46 (dk_at dksX5_day_3 13 rfl rfl)
theorem dX5_day_84 : decode cX5_day 84 = .ok (.aload_n 0, 1) := dk_42 (dk_at dksX5_day_3 14 rfl rfl)
theorem dX5_day_85 : decode cX5_day 85 = .ok (.iload_n 2, 1) := dk_28 (dk_at dksX5_day_3 15 rfl rfl)
theorem dX5_day_86 : decode cX5_day 86 = .ok (.invokevirtual 277, 3) := dk_182 1 21 (dk_at dksX5_day_3 16 rfl rfl)
theorem dX5_day_89 : decode cX5_day 89 = .ok (.aload_n 0, 1) := dk_42 (dk_at dksX5_day_3 19 rfl rfl)
theorem dX5_day_90 : decode cX5_day 90 = .ok (.iload_n 2, 1) := dk_28 (dk_at dksX5_day_3 20 rfl rfl)
theorem dX5_day_91 : decode cX5_day 91 = .ok (.invokevirtual 277, 3) := dk_182 1 21 (dk_at dksX5_day_3 21 rfl rfl)
theorem dX5_day_94 : decode cX5_day 94 = .ok (.imul, 1) := dk_104 (dk_at dksX5_day_4 0 rfl rfl)
theorem dX5_day_95 : decode cX5_day 95 = .ok (.iadd, 1) := dk_96 (dk_at dksX5_day_4 1 rfl rfl)
theorem dX5_day_96 : decode cX5_day 96 = .ok (.iastore, 1) := dk_79 (dk_at dksX5_day_4 2 rfl rfl)
theorem dX5_day_97 : decode cX5_day 97 = .ok (.iinc 2 1, 3) := dk_132 2 1 (dk_at dksX5_day_4 3 rfl rfl)
theorem dX5_day_100 : decode cX5_day 100 = .ok (.goto (-36), 3) := dk_167 255 220 (dk_at dksX5_day_4 6 rfl rfl)
theorem dX5_day_103 : decode cX5_day 103 = .ok (.iconst 0, 1) := dk_3 (dk_at dksX5_day_4 9 rfl rfl)
theorem dX5_day_104 : decode cX5_day 104 = .ok (.istore_n 2, 1) := dk_61 (dk_at dksX5_day_4 10 rfl rfl)
theorem dX5_day_105 : decode cX5_day 105 = .ok (.iload_n 2, 1) := dk_28 (dk_at dksX5_day_4 11 rfl rfl)
theorem dX5_day_106 : decode cX5_day 106 = .ok (.aload_n 0, 1) := dk_42 (dk_at dksX5_day_4 12 rfl rfl)
theorem dX5_day_107 : decode cX5_day 107 = .ok (.getfield 33, 3) := dk_180 0 33 (dk_at dksX5_day_4 13 rfl rfl)
theorem dX5_day_110 : decode cX5_day 110 = .ok (.iconst 2, 1) := dk_5 (dk_at dksX5_day_4 16 rfl rfl)
theorem dX5_day_111 : decode cX5_day 111 = .ok (.iaload, 1) := dk_46 (dk_at dksX5_day_4 17 rfl rfl)
theorem dX5_day_112 : decode cX5_day 112 = .ok (.if_icmp .ge 33, 3) := dk_162 0 33 (dk_at dksX5_day_4 18 rfl rfl)
theorem dX5_day_115 : decode cX5_day 115 = .ok (.aload_n 0, 1) := dk_42 (dk_at dksX5_day_4 21 rfl rfl)
theorem dX5_day_116 : decode cX5_day 116 = .ok (.getfield 33, 3) := dk_180 0 33 (dk_at dksX5_day_5 0 rfl rfl)
theorem dX5_day_119 : decode cX5_day 119 = .ok (.bipush 65, 2) := dk_16 65 (dk_at dksX5_day_5 3 rfl rfl)
theorem dX5_day_121 : decode cX5_day 121 = .ok (.iload_n 2, 1) := dk_28 (dk_at dksX5_day_5 5 rfl rfl)
theorem dX5_day_122 : decode cX5_day 122 = .ok (.iadd, 1) := dk_96 (dk_at dksX5_day_5 6 rfl rfl)
theorem dX5_day_123 : decode cX5_day 123 = .ok (.iaload, 1) := dk_46 (dk_at dksX5_day_5 7 rfl rfl)
theorem dX5_day_124 : decode cX5_day 124 = .ok (.bipush 10, 2) := dk_16 10 (dk_at dksX5_day_5 8 rfl rfl)
theorem dX5_day_126 : decode cX5_day 126 = .ok (.bipush 17, 2) := dk_16 17 (dk_at dksX5_day_5 10 rfl rfl)
theorem dX5_day_128 : decode cX5_day 128 = .ok (.invokestatic 171, 3) := dk_184 0 171 (dk_at dksX5_day_5 12 rfl rfl)
theorem dX5_day_131 : decode cX5_day 131 = .ok (.ifCond .eq 8, 3) := dk_153 0 8 (dk_at dksX5_day_5 15 rfl rfl)
theorem dX5_day_134 : decode cX5_day 134 = .ok (.aload_n 0, 1) := dk_42 (dk_at dksX5_day_5 18 rfl rfl)
theorem dX5_day_135 : decode cX5_day 135 = .ok (.iload_n 2, 1) := dk_28 (dk_at dksX5_day_5 19 rfl rfl)
theorem dX5_day_136 : decode cX5_day 136 = .ok (.invokevirtual 295, 3) := dk_182 1 39 (dk_at dksX5_day_5 20 rfl rfl)
theorem dX5_day_139 : decode cX5_day 139 = .ok (.iinc 2 1, 3) := dk_132 2 1 (dk_at dksX5_day_6 0 rfl rfl)
theorem dX5_day_142 : decode cX5_day 142 = .ok (.goto (-37), 3) := dk_167 255 219 (dk_at dksX5_day_6 3 rfl rfl)
theorem dX5_day_145 : decode cX5_day 145 = .ok (.aload_n 0, 1) := dk_42 (dk_at dksX5_day_6 6 rfl rfl)
theorem dX5_day_146 : decode cX5_day 146 = .ok (.getfield 33, 3) := dk_180 0 33 (dk_at dksX5_day_6 7 rfl rfl)
theorem dX5_day_149 : decode cX5_day 149 = .ok (.bipush 62, 2) := dk_16 62 (dk_at dksX5_day_6 10 rfl rfl)
theorem dX5_day_151 : decode cX5_day 151 = .ok (.dup2, 1) := dk_92 (dk_at dksX5_day_6 12 rfl rfl)
theorem dX5_day_152 : decode cX5_day 152 = .ok (.iaload, 1) := dk_46 (dk_at dksX5_day_6 13 rfl rfl)
theorem dX5_day_153 : decode cX5_day 153 = .ok (.iconst 1, 1) := dk_4 (dk_at dksX5_day_6 14 rfl rfl)
theorem dX5_day_154 : decode cX5_day 154 = .ok (.iadd, 1) := dk_96 (dk_at dksX5_day_6 15 rfl rfl)
theorem dX5_day_155 : decode cX5_day 155 = .ok (.iastore, 1) := dk_79 (dk_at dksX5_day_6 16 rfl rfl)
theorem dX5_day_156 : decode cX5_day 156 = .ok (.return_, 1) := dk_177 (dk_at dksX5_day_6 17 rfl rfl)
theorem se_HeldCoatsModel_ruler___I_HeldCoatsModel : ∀ c ∈ ([5] : List Nat), ∃ q : vw_C, cz_cl[c]? = some q ∧ Cond.selects q.1 (⟨"HeldCoatsModel", "ruler", "()I"⟩ : MethodName) (⟨"HeldCoatsModel", "ruler", "()I"⟩ : MethodName) ∈ lw_all := List.forall_mem_cons.mpr ⟨⟨_, cz_cl5, qs76⟩, fun _ h => absurd h List.not_mem_nil⟩
theorem md_X5_ruler : cz_md yX5_ruler 1 (ws_ yX5_ruler cX5_ruler 1 ((Option.some Jvm.ClassFile.FieldType.int))) 0 := ⟨cz_ws_code q2230, q123, ⟨by decide, by decide, by decide +kernel⟩, by decide⟩
theorem se_HeldCoatsModel_chill__I_I_HeldCoatsModel : ∀ c ∈ ([5] : List Nat), ∃ q : vw_C, cz_cl[c]? = some q ∧ Cond.selects q.1 (⟨"HeldCoatsModel", "chill", "(I)I"⟩ : MethodName) (⟨"HeldCoatsModel", "chill", "(I)I"⟩ : MethodName) ∈ lw_all := List.forall_mem_cons.mpr ⟨⟨_, cz_cl5, qs71⟩, fun _ h => absurd h List.not_mem_nil⟩
theorem md_X5_chill : cz_md yX5_chill 2 (ws_ yX5_chill cX5_chill 2 ((Option.some Jvm.ClassFile.FieldType.int))) 1 := ⟨cz_ws_code q2199, q123, ⟨by decide, by decide, by decide +kernel⟩, by decide⟩
theorem kB_97 : (Int8.ofInt (97)).toInt32 = 97 := by decide
theorem se_HeldCoatsModel_lying__I_V_HeldCoatsModel : ∀ c ∈ ([5] : List Nat), ∃ q : vw_C, cz_cl[c]? = some q ∧ Cond.selects q.1 (⟨"HeldCoatsModel", "lying", "(I)V"⟩ : MethodName) (⟨"HeldCoatsModel", "lying", "(I)V"⟩ : MethodName) ∈ lw_all := List.forall_mem_cons.mpr ⟨⟨_, cz_cl5, qs89⟩, fun _ h => absurd h List.not_mem_nil⟩
theorem md_X5_lying : cz_md yX5_lying 2 (ws_ yX5_lying cX5_lying 2 ((Option.none : Option Jvm.ClassFile.FieldType))) 1 := ⟨cz_ws_code q2302, q123, ⟨by decide, by decide, by decide +kernel⟩, by decide⟩
theorem kB_17 : (Int8.ofInt (17)).toInt32 = 17 := by decide
theorem kB_64 : (Int8.ofInt (64)).toInt32 = 64 := by decide
theorem kB_63 : (Int8.ofInt (63)).toInt32 = 63 := by decide
theorem kB_103 : (Int8.ofInt (103)).toInt32 = 103 := by decide
set_option maxHeartbeats 4000000 in
set_option maxRecDepth 100000 in
noncomputable def fn_X5_day_64 (l0 : Option Nat) (k0 : cz_H → cz_Z) : Nat → Int32 → cz_H → cz_Z
  | 0, _, _ => none
  | n + 1, l2, h => cz_getR h l0 [(5, 6)] (fun r10 => cz_iald h r10 1 (fun x11 => (if x11 ≤ l2 then k0 h else cz_getR h l0 [(5, 6)] (fun r12 => cz_leti ((97 : Int32) + l2) (fun x13 => cz_iald h r12 x13 (fun x14 => cz_rc h l0 [5] (cz_cI (fn_X5_chill l0 l2 h) (fun x22 h21 => cz_rc h21 l0 [5] (cz_cI (fn_X5_chill l0 l2 h21) (fun x30 h29 => cz_iast h29 r12 x13 (x14 + (x22 * x30)) (fun h31 => cz_leti (l2 + 1) (fun x32 => fn_X5_day_64 l0 k0 n x32 h31))))))))))))
set_option maxHeartbeats 4000000 in
set_option maxRecDepth 100000 in
theorem wk_X5_day_64 {K : cz_K} {D : cz_D} {h0 : cz_H} {oh : cz_O × cz_H} {l0 : Option Nat} {k0 : cz_H → cz_Z} (S : cz_S K D h0 cX5_day 3 "HeldCoatsModel" ((Option.none : Option Jvm.ClassFile.FieldType)) "day" ([])) (hk0 : ∀ (h : cz_H), cz_T K D 6 h0 oh 3 (k0 h) h 103 [(0, cz_r l0)] []) : ∀ (n : Nat) (l2 : Int32) (h : cz_H), cz_T K D 6 h0 oh 3 (fn_X5_day_64 l0 k0 n l2 h) h 64 [(0, cz_r l0), (2, cz_i l2)] [] := by
  intro n
  induction n with
  | zero => intros; exact ct_none
  | succ n ih =>
    intro l2 h
    rw [fn_X5_day_64]
    refine ct_iload_n (k := 1) S dX5_day_64 rfl rfl ?_
    refine ct_aload_n (k := 0) S dX5_day_65 rfl rfl ?_
    refine ct_getR S fw_X5_33 dX5_day_66 (fun r10 => ?_)
    refine ct_iconst (v := 1) S dX5_day_69 kI_1 ?_
    refine ct_iald S dX5_day_70 (fun x11 => ?_)
    refine ct_icmp_ge (tgt := 103) S dX5_day_71 (by decide) ?_ ?_
    · exact ct_sub [0] rfl (hk0 h)
    · refine ct_aload_n (k := 0) S dX5_day_74 rfl rfl ?_
      refine ct_getR S fw_X5_33 dX5_day_75 (fun r12 => ?_)
      refine ct_bipush (v := 97) S dX5_day_78 kB_97 ?_
      refine ct_iload_n (k := 1) S dX5_day_80 rfl rfl ?_
      refine ct_iadd S dX5_day_81 ?_
      refine ct_leti (fun x13 => ?_)
      refine ct_dup2 S dX5_day_82 rfl rfl ?_
      refine ct_iald S dX5_day_83 (fun x14 => ?_)
      refine ct_aload_n (k := 0) S dX5_day_84 rfl rfl ?_
      refine ct_iload_n (k := 1) S dX5_day_85 rfl rfl ?_
      refine ct_rc (fun b15 ci16 V17 hb18 hc19 hi20 => ?_)
      refine ct_cI (st := [cz_i x14, cz_i x13, cz_r r12]) (cg_virtual (av := [cz_i l2]) S hb18 hc19 hi20 (fun _ e => mt_X5_chill e) md_X5_chill q2196 q2198 se_HeldCoatsModel_chill__I_I_HeldCoatsModel (by decide) (Nat.le_of_ble_eq_true rfl) rfl dX5_day_86) (fun x22 h21 => ?_)
      refine ct_aload_n (k := 0) S dX5_day_89 rfl rfl ?_
      refine ct_iload_n (k := 1) S dX5_day_90 rfl rfl ?_
      refine ct_rc (fun b23 ci24 V25 hb26 hc27 hi28 => ?_)
      refine ct_cI (st := [cz_i x22, cz_i x14, cz_i x13, cz_r r12]) (cg_virtual (av := [cz_i l2]) S hb26 hc27 hi28 (fun _ e => mt_X5_chill e) md_X5_chill q2196 q2198 se_HeldCoatsModel_chill__I_I_HeldCoatsModel (by decide) (Nat.le_of_ble_eq_true rfl) rfl dX5_day_91) (fun x30 h29 => ?_)
      refine ct_imul S dX5_day_94 ?_
      refine ct_iadd S dX5_day_95 ?_
      refine ct_iast S dX5_day_96 (fun h31 => ?_)
      refine ct_iincL (j := 1) (L2 := fun x32 => [(2, cz_i x32), (0, cz_r l0)]) S dX5_day_97 rfl kI_1 (by decide) (fun _ => rfl) (fun x32 => ?_)
      refine ct_goto (tgt := 64) S dX5_day_100 (by decide) ?_
      exact ct_sub [1, 0] rfl (ih x32 h31)
set_option maxHeartbeats 4000000 in
set_option maxRecDepth 100000 in
noncomputable def fn_X5_day_105 (l0 : Option Nat) (k0 : cz_H → cz_Z) : Nat → Int32 → cz_H → cz_Z
  | 0, _, _ => none
  | n + 1, l2, h => cz_getR h l0 [(5, 6)] (fun r34 => cz_iald h r34 2 (fun x35 => (if x35 ≤ l2 then k0 h else cz_getR h l0 [(5, 6)] (fun r36 => cz_iald h r36 ((65 : Int32) + l2) (fun x37 => cz_cI (fn_X5_isIn x37 10 17 h) (fun x39 h38 => (if x39 = 0 then cz_leti (l2 + 1) (fun x40 => fn_X5_day_105 l0 k0 n x40 h38) else cz_rc h38 l0 [5] (cz_cV (fn_X5_lying l0 l2 h38) (fun h47 => cz_leti (l2 + 1) (fun x48 => fn_X5_day_105 l0 k0 n x48 h47))))))))))
set_option maxHeartbeats 4000000 in
set_option maxRecDepth 100000 in
theorem wk_X5_day_105 {K : cz_K} {D : cz_D} {h0 : cz_H} {oh : cz_O × cz_H} {l0 : Option Nat} {k0 : cz_H → cz_Z} (S : cz_S K D h0 cX5_day 3 "HeldCoatsModel" ((Option.none : Option Jvm.ClassFile.FieldType)) "day" ([])) (hk0 : ∀ (h : cz_H), cz_T K D 6 h0 oh 3 (k0 h) h 145 [(0, cz_r l0)] []) : ∀ (n : Nat) (l2 : Int32) (h : cz_H), cz_T K D 6 h0 oh 3 (fn_X5_day_105 l0 k0 n l2 h) h 105 [(0, cz_r l0), (2, cz_i l2)] [] := by
  intro n
  induction n with
  | zero => intros; exact ct_none
  | succ n ih =>
    intro l2 h
    rw [fn_X5_day_105]
    refine ct_iload_n (k := 1) S dX5_day_105 rfl rfl ?_
    refine ct_aload_n (k := 0) S dX5_day_106 rfl rfl ?_
    refine ct_getR S fw_X5_33 dX5_day_107 (fun r34 => ?_)
    refine ct_iconst (v := 2) S dX5_day_110 kI_2 ?_
    refine ct_iald S dX5_day_111 (fun x35 => ?_)
    refine ct_icmp_ge (tgt := 145) S dX5_day_112 (by decide) ?_ ?_
    · exact ct_sub [0] rfl (hk0 h)
    · refine ct_aload_n (k := 0) S dX5_day_115 rfl rfl ?_
      refine ct_getR S fw_X5_33 dX5_day_116 (fun r36 => ?_)
      refine ct_bipush (v := 65) S dX5_day_119 kB_65 ?_
      refine ct_iload_n (k := 1) S dX5_day_121 rfl rfl ?_
      refine ct_iadd S dX5_day_122 ?_
      refine ct_iald S dX5_day_123 (fun x37 => ?_)
      refine ct_bipush (v := 10) S dX5_day_124 kB_10 ?_
      refine ct_bipush (v := 17) S dX5_day_126 kB_17 ?_
      refine ct_cI (st := []) (cg_static (av := [cz_i x37, cz_i 10, cz_i 17]) S (fun _ e => mt_X5_isIn e) md_X5_isIn (Or.inl q2122) q2123 (by decide) (Nat.le_of_ble_eq_true rfl) rfl dX5_day_128) (fun x39 h38 => ?_)
      refine ct_if_eq (tgt := 139) S dX5_day_131 (by decide) ?_ ?_
      · refine ct_iincL (j := 1) (L2 := fun x40 => [(2, cz_i x40), (0, cz_r l0)]) S dX5_day_139 rfl kI_1 (by decide) (fun _ => rfl) (fun x40 => ?_)
        refine ct_goto (tgt := 105) S dX5_day_142 (by decide) ?_
        exact ct_sub [1, 0] rfl (ih x40 h38)
      · refine ct_aload_n (k := 0) S dX5_day_134 rfl rfl ?_
        refine ct_iload_n (k := 1) S dX5_day_135 rfl rfl ?_
        refine ct_rc (fun b41 ci42 V43 hb44 hc45 hi46 => ?_)
        refine ct_cV (st := []) (cg_virtual (av := [cz_i l2]) S hb44 hc45 hi46 (fun _ e => mt_X5_lying e) md_X5_lying q2299 q2301 se_HeldCoatsModel_lying__I_V_HeldCoatsModel (by decide) (Nat.le_of_ble_eq_true rfl) rfl dX5_day_136) (fun h47 => ?_)
        refine ct_iincL (j := 1) (L2 := fun x48 => [(2, cz_i x48), (0, cz_r l0)]) S dX5_day_139 rfl kI_1 (by decide) (fun _ => rfl) (fun x48 => ?_)
        refine ct_goto (tgt := 105) S dX5_day_142 (by decide) ?_
        exact ct_sub [1, 0] rfl (ih x48 h47)
set_option maxHeartbeats 4000000 in
set_option maxRecDepth 100000 in
noncomputable def fn_X5_day (l0 : Option Nat) (h : cz_H) : cz_Z := cz_rc h l0 [5] (cz_cI (fn_X5_ruler l0 h) (fun x8 h7 => cz_jn (fun (h9 : cz_H) => fn_X5_day_64 l0 (fun (h33 : cz_H) => fn_X5_day_105 l0 (fun (h49 : cz_H) => cz_getR h49 l0 [(5, 6)] (fun r50 => cz_iald h49 r50 62 (fun x51 => cz_iast h49 r50 62 (x51 + 1) (fun h52 => some (.inl none, h52))))) 1000 0 h33) 1000 0 h9) (fun j53 => (if x8 < 0 then cz_getR h7 l0 [(5, 6)] (fun r54 => cz_iald h7 r54 63 (fun x55 => cz_iast h7 r54 63 (x55 + 1) (fun h56 => cz_getR h56 l0 [(5, 6)] (fun r57 => cz_iald h56 r57 64 (fun x58 => (if x58 = 0 then cz_getR h56 l0 [(5, 6)] (fun r59 => cz_getR h56 l0 [(5, 6)] (fun r60 => cz_iald h56 r60 62 (fun x61 => cz_iast h56 r59 64 (x61 + 1) (fun h62 => j53 h62)))) else j53 h56)))))) else cz_getR h7 l0 [(5, 6)] (fun r63 => cz_leti ((103 : Int32) + x8) (fun x64 => cz_iald h7 r63 x64 (fun x65 => cz_iast h7 r63 x64 (x65 + 1) (fun h66 => j53 h66))))))))
set_option maxHeartbeats 4000000 in
set_option maxRecDepth 100000 in
theorem wk_X5_day {K : cz_K} {D : cz_D} {h0 : cz_H} {oh : cz_O × cz_H} {l0 : Option Nat} {h : cz_H} (S : cz_S K D h0 cX5_day 3 "HeldCoatsModel" ((Option.none : Option Jvm.ClassFile.FieldType)) "day" ([])) : cz_T K D 6 h0 oh 3 (fn_X5_day l0 h) h 0 [(0, cz_r l0)] [] := by
  unfold fn_X5_day
  refine ct_aload_n (k := 0) S dX5_day_0 rfl rfl ?_
  refine ct_rc (fun b1 ci2 V3 hb4 hc5 hi6 => ?_)
  refine ct_cI (st := []) (cg_virtual (av := []) S hb4 hc5 hi6 (fun _ e => mt_X5_ruler e) md_X5_ruler q2227 q2229 se_HeldCoatsModel_ruler___I_HeldCoatsModel (by decide) (Nat.le_of_ble_eq_true rfl) rfl dX5_day_1) (fun x8 h7 => ?_)
  refine ct_istore_n (L' := [(1, cz_i x8), (0, cz_r l0)]) S dX5_day_4 rfl (by decide) rfl ?_
  refine ct_iload_n (k := 0) S dX5_day_5 rfl rfl ?_
  refine ct_jnP (fun j53 => ∀ (h9 : cz_H), cz_T K D 6 h0 oh 3 (j53 h9) h9 62 [(0, cz_r l0)] []) (fun h9 => ?_) (fun j53 Hj53 => ?_)
  · refine ct_iconst (v := 0) S dX5_day_62 kI_0 ?_
    refine ct_istore_n (L' := [(2, cz_i 0), (0, cz_r l0)]) S dX5_day_63 rfl (by decide) rfl ?_
    refine ct_sub [1, 0] (L' := [(0, cz_r l0), (2, cz_i 0)]) rfl (wk_X5_day_64 S ?_ 1000 0 h9)
    · intro h33
      refine ct_iconst (v := 0) S dX5_day_103 kI_0 ?_
      refine ct_istore_n (L' := [(2, cz_i 0), (0, cz_r l0)]) S dX5_day_104 rfl (by decide) rfl ?_
      refine ct_sub [1, 0] (L' := [(0, cz_r l0), (2, cz_i 0)]) rfl (wk_X5_day_105 S ?_ 1000 0 h33)
      · intro h49
        refine ct_aload_n (k := 0) S dX5_day_145 rfl rfl ?_
        refine ct_getR S fw_X5_33 dX5_day_146 (fun r50 => ?_)
        refine ct_bipush (v := 62) S dX5_day_149 kB_62 ?_
        refine ct_dup2 S dX5_day_151 rfl rfl ?_
        refine ct_iald S dX5_day_152 (fun x51 => ?_)
        refine ct_iconst (v := 1) S dX5_day_153 kI_1 ?_
        refine ct_iadd S dX5_day_154 ?_
        refine ct_iast S dX5_day_155 (fun h52 => ?_)
        exact ct_vret S rfl dX5_day_156
  · refine ct_if_lt (tgt := 25) S dX5_day_6 (by decide) ?_ ?_
    · refine ct_aload_n (k := 1) S dX5_day_25 rfl rfl ?_
      refine ct_getR S fw_X5_33 dX5_day_26 (fun r54 => ?_)
      refine ct_bipush (v := 63) S dX5_day_29 kB_63 ?_
      refine ct_dup2 S dX5_day_31 rfl rfl ?_
      refine ct_iald S dX5_day_32 (fun x55 => ?_)
      refine ct_iconst (v := 1) S dX5_day_33 kI_1 ?_
      refine ct_iadd S dX5_day_34 ?_
      refine ct_iast S dX5_day_35 (fun h56 => ?_)
      refine ct_aload_n (k := 1) S dX5_day_36 rfl rfl ?_
      refine ct_getR S fw_X5_33 dX5_day_37 (fun r57 => ?_)
      refine ct_bipush (v := 64) S dX5_day_40 kB_64 ?_
      refine ct_iald S dX5_day_42 (fun x58 => ?_)
      refine ct_if_ne (tgt := 62) S dX5_day_43 (by decide) ?_ ?_
      · exact ct_sub [1] rfl (Hj53 h56)
      · refine ct_aload_n (k := 1) S dX5_day_46 rfl rfl ?_
        refine ct_getR S fw_X5_33 dX5_day_47 (fun r59 => ?_)
        refine ct_bipush (v := 64) S dX5_day_50 kB_64 ?_
        refine ct_aload_n (k := 1) S dX5_day_52 rfl rfl ?_
        refine ct_getR S fw_X5_33 dX5_day_53 (fun r60 => ?_)
        refine ct_bipush (v := 62) S dX5_day_56 kB_62 ?_
        refine ct_iald S dX5_day_58 (fun x61 => ?_)
        refine ct_iconst (v := 1) S dX5_day_59 kI_1 ?_
        refine ct_iadd S dX5_day_60 ?_
        refine ct_iast S dX5_day_61 (fun h62 => ?_)
        exact ct_sub [1] rfl (Hj53 h62)
    · refine ct_aload_n (k := 1) S dX5_day_9 rfl rfl ?_
      refine ct_getR S fw_X5_33 dX5_day_10 (fun r63 => ?_)
      refine ct_bipush (v := 103) S dX5_day_13 kB_103 ?_
      refine ct_iload_n (k := 0) S dX5_day_15 rfl rfl ?_
      refine ct_iadd S dX5_day_16 ?_
      refine ct_leti (fun x64 => ?_)
      refine ct_dup2 S dX5_day_17 rfl rfl ?_
      refine ct_iald S dX5_day_18 (fun x65 => ?_)
      refine ct_iconst (v := 1) S dX5_day_19 kI_1 ?_
      refine ct_iadd S dX5_day_20 ?_
      refine ct_iast S dX5_day_21 (fun h66 => ?_)
      refine ct_goto (tgt := 62) S dX5_day_22 (by decide) ?_
      exact ct_sub [1] rfl (Hj53 h66)
theorem mt_X5_day {l : Launch} {D : cz_D} {l0 : Option Nat} {h : cz_H} {oh : cz_O × cz_H} (hz : fn_X5_day l0 h = some oh) : cz_M l D yX5_day (ws_ yX5_day cX5_day 3 ((Option.none : Option Jvm.ClassFile.FieldType))) 6 [cz_r l0] h oh := cz_met (plainFor_of_name (by decide)) (Nat.le_of_ble_eq_true rfl) hz (fun K hl S => wk_X5_day S)
/-! HeldCoatsModel.tries()V -/
def dkwX5_tries_1 : List UInt8 := [132, 1, 1, 167, 255, 232, 177]
abbrev dktX5_tries_1 : List UInt8 := dkwX5_tries_1 ++ []
def dkwX5_tries_0 : List UInt8 := [3, 60, 27, 16, 56, 162, 0, 24, 42, 180, 0, 53, 27, 42, 180, 0, 33, 16, 62, 27, 96, 46, 79]
abbrev dktX5_tries_0 : List UInt8 := dkwX5_tries_0 ++ dktX5_tries_1
theorem dksX5_tries_0 : cX5_tries.data.toList.drop 0 = dktX5_tries_0 := by decide +kernel
theorem dksX5_tries_1 : cX5_tries.data.toList.drop 23 = dktX5_tries_1 := dk_seg dksX5_tries_0 23 rfl rfl
theorem dX5_tries_0 : decode cX5_tries 0 = .ok (.iconst 0, 1) := dk_3 (dk_at dksX5_tries_0 0 rfl rfl)
theorem dX5_tries_1 : decode cX5_tries 1 = .ok (.istore_n 1, 1) := dk_60 (dk_at dksX5_tries_0 1 rfl rfl)
theorem dX5_tries_2 : decode cX5_tries 2 = .ok (.iload_n 1, 1) := dk_27 (dk_at dksX5_tries_0 2 rfl rfl)
theorem dX5_tries_3 : decode cX5_tries 3 = .ok (.bipush 56, 2) := dk_16 56 (dk_at dksX5_tries_0 3 rfl rfl)
theorem dX5_tries_5 : decode cX5_tries 5 = .ok (.if_icmp .ge 24, 3) := dk_162 0 24 (dk_at dksX5_tries_0 5 rfl rfl)
theorem dX5_tries_8 : decode cX5_tries 8 = .ok (.aload_n 0, 1) := dk_42 (dk_at dksX5_tries_0 8 rfl rfl)
theorem dX5_tries_9 : decode cX5_tries 9 = .ok (.getfield 53, 3) := dk_180 0 53 (dk_at dksX5_tries_0 9 rfl rfl)
theorem dX5_tries_12 : decode cX5_tries 12 = .ok (.iload_n 1, 1) := dk_27 (dk_at dksX5_tries_0 12 rfl rfl)
theorem dX5_tries_13 : decode cX5_tries 13 = .ok (.aload_n 0, 1) := dk_42 (dk_at dksX5_tries_0 13 rfl rfl)
theorem dX5_tries_14 : decode cX5_tries 14 = .ok (.getfield 33, 3) := dk_180 0 33 (dk_at dksX5_tries_0 14 rfl rfl)
theorem dX5_tries_17 : decode cX5_tries 17 = .ok (.bipush 62, 2) := dk_16 62 (dk_at dksX5_tries_0 17 rfl rfl)
theorem dX5_tries_19 : decode cX5_tries 19 = .ok (.iload_n 1, 1) := dk_27 (dk_at dksX5_tries_0 19 rfl rfl)
theorem dX5_tries_20 : decode cX5_tries 20 = .ok (.iadd, 1) := dk_96 (dk_at dksX5_tries_0 20 rfl rfl)
theorem dX5_tries_21 : decode cX5_tries 21 = .ok (.iaload, 1) := dk_46 (dk_at dksX5_tries_0 21 rfl rfl)
theorem dX5_tries_22 : decode cX5_tries 22 = .ok (.iastore, 1) := dk_79 (dk_at dksX5_tries_0 22 rfl rfl)
theorem dX5_tries_23 : decode cX5_tries 23 = .ok (.iinc 1 1, 3) := dk_132 1 1 (dk_at dksX5_tries_1 0 rfl rfl)
theorem dX5_tries_26 : decode cX5_tries 26 = .ok (.goto (-24), 3) := dk_167 255 232 (dk_at dksX5_tries_1 3 rfl rfl)
theorem dX5_tries_29 : decode cX5_tries 29 = .ok (.return_, 1) := dk_177 (dk_at dksX5_tries_1 6 rfl rfl)
set_option maxHeartbeats 4000000 in
set_option maxRecDepth 100000 in
noncomputable def fn_X5_tries_2 (l0 : Option Nat) (k0 : cz_H → cz_Z) : Nat → Int32 → cz_H → cz_Z
  | 0, _, _ => none
  | n + 1, l1, h => (if (56 : Int32) ≤ l1 then k0 h else cz_getR h l0 [(5, 22)] (fun r1 => cz_getR h l0 [(5, 6)] (fun r2 => cz_iald h r2 ((62 : Int32) + l1) (fun x3 => cz_iast h r1 l1 x3 (fun h4 => cz_leti (l1 + 1) (fun x5 => fn_X5_tries_2 l0 k0 n x5 h4))))))
set_option maxHeartbeats 4000000 in
set_option maxRecDepth 100000 in
theorem wk_X5_tries_2 {K : cz_K} {D : cz_D} {h0 : cz_H} {oh : cz_O × cz_H} {l0 : Option Nat} {k0 : cz_H → cz_Z} (S : cz_S K D h0 cX5_tries 2 "HeldCoatsModel" ((Option.none : Option Jvm.ClassFile.FieldType)) "tries" ([])) (hk0 : ∀ (h : cz_H), cz_T K D 2 h0 oh 2 (k0 h) h 29 [] []) : ∀ (n : Nat) (l1 : Int32) (h : cz_H), cz_T K D 2 h0 oh 2 (fn_X5_tries_2 l0 k0 n l1 h) h 2 [(0, cz_r l0), (1, cz_i l1)] [] := by
  intro n
  induction n with
  | zero => intros; exact ct_none
  | succ n ih =>
    intro l1 h
    rw [fn_X5_tries_2]
    refine ct_iload_n (k := 1) S dX5_tries_2 rfl rfl ?_
    refine ct_bipush (v := 56) S dX5_tries_3 kB_56 ?_
    refine ct_icmp_ge (tgt := 29) S dX5_tries_5 (by decide) ?_ ?_
    · exact ct_sub [] rfl (hk0 h)
    · refine ct_aload_n (k := 0) S dX5_tries_8 rfl rfl ?_
      refine ct_getR S fw_X5_53 dX5_tries_9 (fun r1 => ?_)
      refine ct_iload_n (k := 1) S dX5_tries_12 rfl rfl ?_
      refine ct_aload_n (k := 0) S dX5_tries_13 rfl rfl ?_
      refine ct_getR S fw_X5_33 dX5_tries_14 (fun r2 => ?_)
      refine ct_bipush (v := 62) S dX5_tries_17 kB_62 ?_
      refine ct_iload_n (k := 1) S dX5_tries_19 rfl rfl ?_
      refine ct_iadd S dX5_tries_20 ?_
      refine ct_iald S dX5_tries_21 (fun x3 => ?_)
      refine ct_iast S dX5_tries_22 (fun h4 => ?_)
      refine ct_iincL (j := 1) (L2 := fun x5 => [(1, cz_i x5), (0, cz_r l0)]) S dX5_tries_23 rfl kI_1 (by decide) (fun _ => rfl) (fun x5 => ?_)
      refine ct_goto (tgt := 2) S dX5_tries_26 (by decide) ?_
      exact ct_sub [1, 0] rfl (ih x5 h4)
set_option maxHeartbeats 4000000 in
set_option maxRecDepth 100000 in
noncomputable def fn_X5_tries (l0 : Option Nat) (h : cz_H) : cz_Z := fn_X5_tries_2 l0 (fun (h6 : cz_H) => some (.inl none, h6)) 1000 0 h
set_option maxHeartbeats 4000000 in
set_option maxRecDepth 100000 in
theorem wk_X5_tries {K : cz_K} {D : cz_D} {h0 : cz_H} {oh : cz_O × cz_H} {l0 : Option Nat} {h : cz_H} (S : cz_S K D h0 cX5_tries 2 "HeldCoatsModel" ((Option.none : Option Jvm.ClassFile.FieldType)) "tries" ([])) : cz_T K D 2 h0 oh 2 (fn_X5_tries l0 h) h 0 [(0, cz_r l0)] [] := by
  unfold fn_X5_tries
  refine ct_iconst (v := 0) S dX5_tries_0 kI_0 ?_
  refine ct_istore_n (L' := [(1, cz_i 0), (0, cz_r l0)]) S dX5_tries_1 rfl (by decide) rfl ?_
  refine ct_sub [1, 0] (L' := [(0, cz_r l0), (1, cz_i 0)]) rfl (wk_X5_tries_2 S ?_ 1000 0 h)
  · intro h6
    exact ct_vret S rfl dX5_tries_29
theorem mt_X5_tries {l : Launch} {D : cz_D} {l0 : Option Nat} {h : cz_H} {oh : cz_O × cz_H} (hz : fn_X5_tries l0 h = some oh) : cz_M l D yX5_tries (ws_ yX5_tries cX5_tries 2 ((Option.none : Option Jvm.ClassFile.FieldType))) 2 [cz_r l0] h oh := cz_met (plainFor_of_name (by decide)) (Nat.le_of_ble_eq_true rfl) hz (fun K hl S => wk_X5_tries S)
/-! HeldCoatsModel.firstOf(I)I -/
def dkwX5_firstOf_2 : List UInt8 := [182, 1, 104, 28, 172]
abbrev dktX5_firstOf_2 : List UInt8 := dkwX5_firstOf_2 ++ []
def dkwX5_firstOf_1 : List UInt8 := [182, 1, 27, 27, 160, 0, 11, 42, 180, 0, 33, 16, 62, 46, 61, 42, 182, 1, 42, 167, 255, 219, 42]
abbrev dktX5_firstOf_1 : List UInt8 := dkwX5_firstOf_1 ++ dktX5_firstOf_2
def dkwX5_firstOf_0 : List UInt8 := [42, 182, 1, 101, 2, 61, 28, 156, 0, 39, 42, 180, 0, 33, 16, 62, 46, 17, 1, 144, 162, 0, 26, 42]
abbrev dktX5_firstOf_0 : List UInt8 := dkwX5_firstOf_0 ++ dktX5_firstOf_1
theorem dksX5_firstOf_0 : cX5_firstOf.data.toList.drop 0 = dktX5_firstOf_0 := by decide +kernel
theorem dksX5_firstOf_1 : cX5_firstOf.data.toList.drop 24 = dktX5_firstOf_1 := dk_seg dksX5_firstOf_0 24 rfl rfl
theorem dksX5_firstOf_2 : cX5_firstOf.data.toList.drop 47 = dktX5_firstOf_2 := dk_seg dksX5_firstOf_1 23 rfl rfl
theorem dX5_firstOf_0 : decode cX5_firstOf 0 = .ok (.aload_n 0, 1) := dk_42 (dk_at dksX5_firstOf_0 0 rfl rfl)
theorem dX5_firstOf_1 : decode cX5_firstOf 1 = .ok (.invokevirtual 357, 3) := dk_182 1 101 (dk_at dksX5_firstOf_0 1 rfl rfl)
theorem dX5_firstOf_4 : decode cX5_firstOf 4 = .ok (.iconst (-1), 1) := dk_2 (dk_at dksX5_firstOf_0 4 rfl rfl)
theorem dX5_firstOf_5 : decode cX5_firstOf 5 = .ok (.istore_n 2, 1) := dk_61 (dk_at dksX5_firstOf_0 5 rfl rfl)
theorem dX5_firstOf_6 : decode cX5_firstOf 6 = .ok (.iload_n 2, 1) := dk_28 (dk_at dksX5_firstOf_0 6 rfl rfl)
theorem dX5_firstOf_7 : decode cX5_firstOf 7 = .ok (.ifCond .ge 39, 3) := dk_156 0 39 (dk_at dksX5_firstOf_0 7 rfl rfl)
theorem dX5_firstOf_10 : decode cX5_firstOf 10 = .ok (.aload_n 0, 1) := dk_42 (dk_at dksX5_firstOf_0 10 rfl rfl)
theorem dX5_firstOf_11 : decode cX5_firstOf 11 = .ok (.getfield 33, 3) := dk_180 0 33 (dk_at dksX5_firstOf_0 11 rfl rfl)
theorem dX5_firstOf_14 : decode cX5_firstOf 14 = .ok (.bipush 62, 2) := dk_16 62 (dk_at dksX5_firstOf_0 14 rfl rfl)
theorem dX5_firstOf_16 : decode cX5_firstOf 16 = .ok (.iaload, 1) := dk_46 (dk_at dksX5_firstOf_0 16 rfl rfl)
theorem dX5_firstOf_17 : decode cX5_firstOf 17 = .ok (.sipush 400, 3) := dk_17 1 144 (dk_at dksX5_firstOf_0 17 rfl rfl)
theorem dX5_firstOf_20 : decode cX5_firstOf 20 = .ok (.if_icmp .ge 26, 3) := dk_162 0 26 (dk_at dksX5_firstOf_0 20 rfl rfl)
theorem dX5_firstOf_23 : decode cX5_firstOf 23 = .ok (.aload_n 0, 1) := dk_42 (dk_at dksX5_firstOf_0 23 rfl rfl)
theorem dX5_firstOf_24 : decode cX5_firstOf 24 = .ok (.invokevirtual 283, 3) := dk_182 1 27 (dk_at dksX5_firstOf_1 0 rfl rfl)
theorem dX5_firstOf_27 : decode cX5_firstOf 27 = .ok (.iload_n 1, 1) := dk_27 (dk_at dksX5_firstOf_1 3 rfl rfl)
theorem dX5_firstOf_28 : decode cX5_firstOf 28 = .ok (.if_icmp .ne 11, 3) := dk_160 0 11 (dk_at dksX5_firstOf_1 4 rfl rfl)
theorem dX5_firstOf_31 : decode cX5_firstOf 31 = .ok (.aload_n 0, 1) := dk_42 (dk_at dksX5_firstOf_1 7 rfl rfl)
theorem dX5_firstOf_32 : decode cX5_firstOf 32 = .ok (.getfield 33, 3) := dk_180 0 33 (dk_at dksX5_firstOf_1 8 rfl rfl)
theorem dX5_firstOf_35 : decode cX5_firstOf 35 = .ok (.bipush 62, 2) := dk_16 62 (dk_at dksX5_firstOf_1 11 rfl rfl)
theorem dX5_firstOf_37 : decode cX5_firstOf 37 = .ok (.iaload, 1) := dk_46 (dk_at dksX5_firstOf_1 13 rfl rfl)
theorem dX5_firstOf_38 : decode cX5_firstOf 38 = .ok (.istore_n 2, 1) := dk_61 (dk_at dksX5_firstOf_1 14 rfl rfl)
theorem dX5_firstOf_39 : decode cX5_firstOf 39 = .ok (.aload_n 0, 1) := dk_42 (dk_at dksX5_firstOf_1 15 rfl rfl)
theorem dX5_firstOf_40 : decode cX5_firstOf 40 = .ok (.invokevirtual 298, 3) := dk_182 1 42 (dk_at dksX5_firstOf_1 16 rfl rfl)
theorem dX5_firstOf_43 : decode cX5_firstOf 43 = .ok (.goto (-37), 3) := dk_167 255 219 (dk_at dksX5_firstOf_1 19 rfl rfl)
theorem dX5_firstOf_46 : decode cX5_firstOf 46 = .ok (.aload_n 0, 1) := dk_42 (dk_at dksX5_firstOf_1 22 rfl rfl)
theorem dX5_firstOf_47 : decode cX5_firstOf 47 = .ok (.invokevirtual 360, 3) := dk_182 1 104 (dk_at dksX5_firstOf_2 0 rfl rfl)
theorem dX5_firstOf_50 : decode cX5_firstOf 50 = .ok (.iload_n 2, 1) := dk_28 (dk_at dksX5_firstOf_2 3 rfl rfl)
theorem dX5_firstOf_51 : decode cX5_firstOf 51 = .ok (.ireturn, 1) := dk_172 (dk_at dksX5_firstOf_2 4 rfl rfl)
theorem se_HeldCoatsModel_tries___V_HeldCoatsModel : ∀ c ∈ ([5] : List Nat), ∃ q : vw_C, cz_cl[c]? = some q ∧ Cond.selects q.1 (⟨"HeldCoatsModel", "tries", "()V"⟩ : MethodName) (⟨"HeldCoatsModel", "tries", "()V"⟩ : MethodName) ∈ lw_all := List.forall_mem_cons.mpr ⟨⟨_, cz_cl5, qs95⟩, fun _ h => absurd h List.not_mem_nil⟩
theorem md_X5_tries : cz_md yX5_tries 2 (ws_ yX5_tries cX5_tries 2 ((Option.none : Option Jvm.ClassFile.FieldType))) 0 := ⟨cz_ws_code q2373, q123, ⟨by decide, by decide, by decide +kernel⟩, by decide⟩
theorem se_HeldCoatsModel_day___V_HeldCoatsModel : ∀ c ∈ ([5] : List Nat), ∃ q : vw_C, cz_cl[c]? = some q ∧ Cond.selects q.1 (⟨"HeldCoatsModel", "day", "()V"⟩ : MethodName) (⟨"HeldCoatsModel", "day", "()V"⟩ : MethodName) ∈ lw_all := List.forall_mem_cons.mpr ⟨⟨_, cz_cl5, qs88⟩, fun _ h => absurd h List.not_mem_nil⟩
theorem md_X5_day : cz_md yX5_day 3 (ws_ yX5_day cX5_day 3 ((Option.none : Option Jvm.ClassFile.FieldType))) 0 := ⟨cz_ws_code q2298, q123, ⟨by decide, by decide, by decide +kernel⟩, by decide⟩
theorem kS_400 : (Int16.ofInt (400)).toInt32 = 400 := by decide
theorem se_HeldCoatsModel_back___V_HeldCoatsModel : ∀ c ∈ ([5] : List Nat), ∃ q : vw_C, cz_cl[c]? = some q ∧ Cond.selects q.1 (⟨"HeldCoatsModel", "back", "()V"⟩ : MethodName) (⟨"HeldCoatsModel", "back", "()V"⟩ : MethodName) ∈ lw_all := List.forall_mem_cons.mpr ⟨⟨_, cz_cl5, qs96⟩, fun _ h => absurd h List.not_mem_nil⟩
theorem md_X5_back : cz_md yX5_back 2 (ws_ yX5_back cX5_back 2 ((Option.none : Option Jvm.ClassFile.FieldType))) 0 := ⟨cz_ws_code q2377, q123, ⟨by decide, by decide, by decide +kernel⟩, by decide⟩
set_option maxHeartbeats 4000000 in
set_option maxRecDepth 100000 in
noncomputable def fn_X5_firstOf_6 (l0 : Option Nat) (l1 : Int32) (k0 : Int32 → cz_H → cz_Z) : Nat → Int32 → cz_H → cz_Z
  | 0, _, _ => none
  | n + 1, l2, h => (if 0 ≤ l2 then k0 l2 h else cz_getR h l0 [(5, 6)] (fun r8 => cz_iald h r8 62 (fun x9 => (if (400 : Int32) ≤ x9 then k0 l2 h else cz_rc h l0 [5] (cz_cI (fn_X5_ruler l0 h) (fun x17 h16 => (if x17 = l1 then cz_getR h16 l0 [(5, 6)] (fun r25 => cz_iald h16 r25 62 (fun x26 => cz_rc h16 l0 [5] (cz_cV (fn_X5_day l0 h16) (fun h33 => fn_X5_firstOf_6 l0 l1 k0 n x26 h33)))) else cz_rc h16 l0 [5] (cz_cV (fn_X5_day l0 h16) (fun h24 => fn_X5_firstOf_6 l0 l1 k0 n l2 h24)))))))))
set_option maxHeartbeats 4000000 in
set_option maxRecDepth 100000 in
theorem wk_X5_firstOf_6 {K : cz_K} {D : cz_D} {h0 : cz_H} {oh : cz_O × cz_H} {l0 : Option Nat} {l1 : Int32} {k0 : Int32 → cz_H → cz_Z} (S : cz_S K D h0 cX5_firstOf 3 "HeldCoatsModel" ((Option.some Jvm.ClassFile.FieldType.int)) "firstOf" ([])) (hk0 : ∀ (e2 : Int32) (h : cz_H), cz_T K D 7 h0 oh 3 (k0 e2 h) h 46 [(0, cz_r l0), (2, cz_i e2)] []) : ∀ (n : Nat) (l2 : Int32) (h : cz_H), cz_T K D 7 h0 oh 3 (fn_X5_firstOf_6 l0 l1 k0 n l2 h) h 6 [(0, cz_r l0), (1, cz_i l1), (2, cz_i l2)] [] := by
  intro n
  induction n with
  | zero => intros; exact ct_none
  | succ n ih =>
    intro l2 h
    rw [fn_X5_firstOf_6]
    refine ct_iload_n (k := 2) S dX5_firstOf_6 rfl rfl ?_
    refine ct_if_ge (tgt := 46) S dX5_firstOf_7 (by decide) ?_ ?_
    · exact ct_sub [0, 2] rfl (hk0 l2 h)
    · refine ct_aload_n (k := 0) S dX5_firstOf_10 rfl rfl ?_
      refine ct_getR S fw_X5_33 dX5_firstOf_11 (fun r8 => ?_)
      refine ct_bipush (v := 62) S dX5_firstOf_14 kB_62 ?_
      refine ct_iald S dX5_firstOf_16 (fun x9 => ?_)
      refine ct_sipush (v := 400) S dX5_firstOf_17 kS_400 ?_
      refine ct_icmp_ge (tgt := 46) S dX5_firstOf_20 (by decide) ?_ ?_
      · exact ct_sub [0, 2] rfl (hk0 l2 h)
      · refine ct_aload_n (k := 0) S dX5_firstOf_23 rfl rfl ?_
        refine ct_rc (fun b10 ci11 V12 hb13 hc14 hi15 => ?_)
        refine ct_cI (st := []) (cg_virtual (av := []) S hb13 hc14 hi15 (fun _ e => mt_X5_ruler e) md_X5_ruler q2227 q2229 se_HeldCoatsModel_ruler___I_HeldCoatsModel (by decide) (Nat.le_of_ble_eq_true rfl) rfl dX5_firstOf_24) (fun x17 h16 => ?_)
        refine ct_iload_n (k := 1) S dX5_firstOf_27 rfl rfl ?_
        refine ct_icmp_ne (tgt := 39) S dX5_firstOf_28 (by decide) ?_ ?_
        · refine ct_aload_n (k := 0) S dX5_firstOf_39 rfl rfl ?_
          refine ct_rc (fun b18 ci19 V20 hb21 hc22 hi23 => ?_)
          refine ct_cV (st := []) (cg_virtual (av := []) S hb21 hc22 hi23 (fun _ e => mt_X5_day e) md_X5_day q2295 q2297 se_HeldCoatsModel_day___V_HeldCoatsModel (by decide) (Nat.le_of_ble_eq_true rfl) rfl dX5_firstOf_40) (fun h24 => ?_)
          refine ct_goto (tgt := 6) S dX5_firstOf_43 (by decide) ?_
          exact ih l2 h24
        · refine ct_aload_n (k := 0) S dX5_firstOf_31 rfl rfl ?_
          refine ct_getR S fw_X5_33 dX5_firstOf_32 (fun r25 => ?_)
          refine ct_bipush (v := 62) S dX5_firstOf_35 kB_62 ?_
          refine ct_iald S dX5_firstOf_37 (fun x26 => ?_)
          refine ct_istore_n (L' := [(2, cz_i x26), (0, cz_r l0), (1, cz_i l1)]) S dX5_firstOf_38 rfl (by decide) rfl ?_
          refine ct_aload_n (k := 1) S dX5_firstOf_39 rfl rfl ?_
          refine ct_rc (fun b27 ci28 V29 hb30 hc31 hi32 => ?_)
          refine ct_cV (st := []) (cg_virtual (av := []) S hb30 hc31 hi32 (fun _ e => mt_X5_day e) md_X5_day q2295 q2297 se_HeldCoatsModel_day___V_HeldCoatsModel (by decide) (Nat.le_of_ble_eq_true rfl) rfl dX5_firstOf_40) (fun h33 => ?_)
          refine ct_goto (tgt := 6) S dX5_firstOf_43 (by decide) ?_
          exact ct_sub [1, 2, 0] rfl (ih x26 h33)
set_option maxHeartbeats 4000000 in
set_option maxRecDepth 100000 in
noncomputable def fn_X5_firstOf (l0 : Option Nat) (l1 : Int32) (h : cz_H) : cz_Z := cz_rc h l0 [5] (cz_cV (fn_X5_tries l0 h) (fun h7 => fn_X5_firstOf_6 l0 l1 (fun (e34 : Int32) (h35 : cz_H) => cz_rc h35 l0 [5] (cz_cV (fn_X5_back l0 h35) (fun h42 => some (.inl (some (cz_i e34)), h42)))) 1000 (-1) h7))
set_option maxHeartbeats 4000000 in
set_option maxRecDepth 100000 in
theorem wk_X5_firstOf {K : cz_K} {D : cz_D} {h0 : cz_H} {oh : cz_O × cz_H} {l0 : Option Nat} {l1 : Int32} {h : cz_H} (S : cz_S K D h0 cX5_firstOf 3 "HeldCoatsModel" ((Option.some Jvm.ClassFile.FieldType.int)) "firstOf" ([])) : cz_T K D 7 h0 oh 3 (fn_X5_firstOf l0 l1 h) h 0 [(0, cz_r l0), (1, cz_i l1)] [] := by
  unfold fn_X5_firstOf
  refine ct_aload_n (k := 0) S dX5_firstOf_0 rfl rfl ?_
  refine ct_rc (fun b1 ci2 V3 hb4 hc5 hi6 => ?_)
  refine ct_cV (st := []) (cg_virtual (av := []) S hb4 hc5 hi6 (fun _ e => mt_X5_tries e) md_X5_tries q2370 q2372 se_HeldCoatsModel_tries___V_HeldCoatsModel (by decide) (Nat.le_of_ble_eq_true rfl) rfl dX5_firstOf_1) (fun h7 => ?_)
  refine ct_iconst (v := (-1)) S dX5_firstOf_4 kI_m1 ?_
  refine ct_istore_n (L' := [(2, cz_i (-1)), (0, cz_r l0), (1, cz_i l1)]) S dX5_firstOf_5 rfl (by decide) rfl ?_
  refine ct_sub [1, 2, 0] (L' := [(0, cz_r l0), (1, cz_i l1), (2, cz_i (-1))]) rfl (wk_X5_firstOf_6 S ?_ 1000 (-1) h7)
  · intro e34 h35
    refine ct_aload_n (k := 0) S dX5_firstOf_46 rfl rfl ?_
    refine ct_rc (fun b36 ci37 V38 hb39 hc40 hi41 => ?_)
    refine ct_cV (st := []) (cg_virtual (av := []) S hb39 hc40 hi41 (fun _ e => mt_X5_back e) md_X5_back q2374 q2376 se_HeldCoatsModel_back___V_HeldCoatsModel (by decide) (Nat.le_of_ble_eq_true rfl) rfl dX5_firstOf_47) (fun h42 => ?_)
    refine ct_iload_n (k := 1) S dX5_firstOf_50 rfl rfl ?_
    exact ct_iret S rfl dX5_firstOf_51
theorem mt_X5_firstOf {l : Launch} {D : cz_D} {l0 : Option Nat} {l1 : Int32} {h : cz_H} {oh : cz_O × cz_H} (hz : fn_X5_firstOf l0 l1 h = some oh) : cz_M l D yX5_firstOf (ws_ yX5_firstOf cX5_firstOf 3 ((Option.some Jvm.ClassFile.FieldType.int))) 7 [cz_r l0, cz_i l1] h oh := cz_met (plainFor_of_name (by decide)) (Nat.le_of_ble_eq_true rfl) hz (fun K hl S => wk_X5_firstOf S)
/-! HeldCoatsModel.bare()I -/
def dkwX5_bare_0 : List UInt8 := [42, 3, 181, 0, 1, 42, 2, 182, 1, 107, 172]
abbrev dktX5_bare_0 : List UInt8 := dkwX5_bare_0 ++ []
theorem dksX5_bare_0 : cX5_bare.data.toList.drop 0 = dktX5_bare_0 := by decide +kernel
theorem dX5_bare_0 : decode cX5_bare 0 = .ok (.aload_n 0, 1) := dk_42 (dk_at dksX5_bare_0 0 rfl rfl)
theorem dX5_bare_1 : decode cX5_bare 1 = .ok (.iconst 0, 1) := dk_3 (dk_at dksX5_bare_0 1 rfl rfl)
theorem dX5_bare_2 : decode cX5_bare 2 = .ok (.putfield 1, 3) := dk_181 0 1 (dk_at dksX5_bare_0 2 rfl rfl)
theorem dX5_bare_5 : decode cX5_bare 5 = .ok (.aload_n 0, 1) := dk_42 (dk_at dksX5_bare_0 5 rfl rfl)
theorem dX5_bare_6 : decode cX5_bare 6 = .ok (.iconst (-1), 1) := dk_2 (dk_at dksX5_bare_0 6 rfl rfl)
theorem dX5_bare_7 : decode cX5_bare 7 = .ok (.invokevirtual 363, 3) := dk_182 1 107 (dk_at dksX5_bare_0 7 rfl rfl)
theorem dX5_bare_10 : decode cX5_bare 10 = .ok (.ireturn, 1) := dk_172 (dk_at dksX5_bare_0 10 rfl rfl)
theorem se_HeldCoatsModel_firstOf__I_I_HeldCoatsModel : ∀ c ∈ ([5] : List Nat), ∃ q : vw_C, cz_cl[c]? = some q ∧ Cond.selects q.1 (⟨"HeldCoatsModel", "firstOf", "(I)I"⟩ : MethodName) (⟨"HeldCoatsModel", "firstOf", "(I)I"⟩ : MethodName) ∈ lw_all := List.forall_mem_cons.mpr ⟨⟨_, cz_cl5, qs97⟩, fun _ h => absurd h List.not_mem_nil⟩
theorem md_X5_firstOf : cz_md yX5_firstOf 3 (ws_ yX5_firstOf cX5_firstOf 3 ((Option.some Jvm.ClassFile.FieldType.int))) 1 := ⟨cz_ws_code q2385, q123, ⟨by decide, by decide, by decide +kernel⟩, by decide⟩
set_option maxHeartbeats 4000000 in
set_option maxRecDepth 100000 in
noncomputable def fn_X5_bare (l0 : Option Nat) (h : cz_H) : cz_Z := cz_put h l0 [(5, 0)] (cz_i 0) (fun h1 => cz_rc h1 l0 [5] (cz_cI (fn_X5_firstOf l0 (-1) h1) (fun x9 h8 => some (.inl (some (cz_i x9)), h8))))
set_option maxHeartbeats 4000000 in
set_option maxRecDepth 100000 in
theorem wk_X5_bare {K : cz_K} {D : cz_D} {h0 : cz_H} {oh : cz_O × cz_H} {l0 : Option Nat} {h : cz_H} (S : cz_S K D h0 cX5_bare 1 "HeldCoatsModel" ((Option.some Jvm.ClassFile.FieldType.int)) "bare" ([])) : cz_T K D 8 h0 oh 1 (fn_X5_bare l0 h) h 0 [(0, cz_r l0)] [] := by
  unfold fn_X5_bare
  refine ct_aload_n (k := 0) S dX5_bare_0 rfl rfl ?_
  refine ct_iconst (v := 0) S dX5_bare_1 kI_0 ?_
  refine ct_put S fw_X5_1 fp_X5_m_5_0 (cz_fits_i pd_I) dX5_bare_2 (fun h1 => ?_)
  refine ct_aload_n (k := 0) S dX5_bare_5 rfl rfl ?_
  refine ct_iconst (v := (-1)) S dX5_bare_6 kI_m1 ?_
  refine ct_rc (fun b2 ci3 V4 hb5 hc6 hi7 => ?_)
  refine ct_cI (st := []) (cg_virtual (av := [cz_i (-1)]) S hb5 hc6 hi7 (fun _ e => mt_X5_firstOf e) md_X5_firstOf q2382 q2384 se_HeldCoatsModel_firstOf__I_I_HeldCoatsModel (by decide) (Nat.le_of_ble_eq_true rfl) rfl dX5_bare_7) (fun x9 h8 => ?_)
  exact ct_iret S rfl dX5_bare_10
theorem mt_X5_bare {l : Launch} {D : cz_D} {l0 : Option Nat} {h : cz_H} {oh : cz_O × cz_H} (hz : fn_X5_bare l0 h = some oh) : cz_M l D yX5_bare (ws_ yX5_bare cX5_bare 1 ((Option.some Jvm.ClassFile.FieldType.int))) 8 [cz_r l0] h oh := cz_met (plainFor_of_name (by decide)) (Nat.le_of_ble_eq_true rfl) hz (fun K hl S => wk_X5_bare S)
/-! HeldCoatsModel.bits(I)I -/
def dkwX5_bits_0 : List UInt8 := [3, 60, 26, 61, 28, 153, 0, 15, 132, 1, 1, 28, 28, 4, 100, 126, 61, 167, 255, 243, 27, 172]
abbrev dktX5_bits_0 : List UInt8 := dkwX5_bits_0 ++ []
theorem dksX5_bits_0 : cX5_bits.data.toList.drop 0 = dktX5_bits_0 := by decide +kernel
theorem dX5_bits_0 : decode cX5_bits 0 = .ok (.iconst 0, 1) := dk_3 (dk_at dksX5_bits_0 0 rfl rfl)
theorem dX5_bits_1 : decode cX5_bits 1 = .ok (.istore_n 1, 1) := dk_60 (dk_at dksX5_bits_0 1 rfl rfl)
theorem dX5_bits_2 : decode cX5_bits 2 = .ok (.iload_n 0, 1) := dk_26 (dk_at dksX5_bits_0 2 rfl rfl)
theorem dX5_bits_3 : decode cX5_bits 3 = .ok (.istore_n 2, 1) := dk_61 (dk_at dksX5_bits_0 3 rfl rfl)
theorem dX5_bits_4 : decode cX5_bits 4 = .ok (.iload_n 2, 1) := dk_28 (dk_at dksX5_bits_0 4 rfl rfl)
theorem dX5_bits_5 : decode cX5_bits 5 = .ok (.ifCond .eq 15, 3) := dk_153 0 15 (dk_at dksX5_bits_0 5 rfl rfl)
theorem dX5_bits_8 : decode cX5_bits 8 = .ok (.iinc 1 1, 3) := dk_132 1 1 (dk_at dksX5_bits_0 8 rfl rfl)
theorem dX5_bits_11 : decode cX5_bits 11 = .ok (.iload_n 2, 1) := dk_28 (dk_at dksX5_bits_0 11 rfl rfl)
theorem dX5_bits_12 : decode cX5_bits 12 = .ok (.iload_n 2, 1) := dk_28 (dk_at dksX5_bits_0 12 rfl rfl)
theorem dX5_bits_13 : decode cX5_bits 13 = .ok (.iconst 1, 1) := dk_4 (dk_at dksX5_bits_0 13 rfl rfl)
theorem dX5_bits_14 : decode cX5_bits 14 = .ok (.isub, 1) := dk_100 (dk_at dksX5_bits_0 14 rfl rfl)
theorem dX5_bits_15 : decode cX5_bits 15 = .ok (.iand, 1) := dk_126 (dk_at dksX5_bits_0 15 rfl rfl)
theorem dX5_bits_16 : decode cX5_bits 16 = .ok (.istore_n 2, 1) := dk_61 (dk_at dksX5_bits_0 16 rfl rfl)
theorem dX5_bits_17 : decode cX5_bits 17 = .ok (.goto (-13), 3) := dk_167 255 243 (dk_at dksX5_bits_0 17 rfl rfl)
theorem dX5_bits_20 : decode cX5_bits 20 = .ok (.iload_n 1, 1) := dk_27 (dk_at dksX5_bits_0 20 rfl rfl)
theorem dX5_bits_21 : decode cX5_bits 21 = .ok (.ireturn, 1) := dk_172 (dk_at dksX5_bits_0 21 rfl rfl)
set_option maxHeartbeats 4000000 in
set_option maxRecDepth 100000 in
noncomputable def fn_X5_bits_4 (k0 : Int32 → cz_H → cz_Z) : Nat → Int32 → Int32 → cz_H → cz_Z
  | 0, _, _, _ => none
  | n + 1, l1, l2, h => (if l2 = 0 then k0 l1 h else cz_leti (l1 + 1) (fun x1 => cz_leti (l2 &&& (l2 - 1)) (fun x2 => fn_X5_bits_4 k0 n x1 x2 h)))
set_option maxHeartbeats 4000000 in
set_option maxRecDepth 100000 in
theorem wk_X5_bits_4 {K : cz_K} {D : cz_D} {h0 : cz_H} {oh : cz_O × cz_H} {k0 : Int32 → cz_H → cz_Z} (S : cz_S K D h0 cX5_bits 3 "HeldCoatsModel" ((Option.some Jvm.ClassFile.FieldType.int)) "bits" ([])) (hk0 : ∀ (e1 : Int32) (h : cz_H), cz_T K D 2 h0 oh 3 (k0 e1 h) h 20 [(1, cz_i e1)] []) : ∀ (n : Nat) (l1 : Int32) (l2 : Int32) (h : cz_H), cz_T K D 2 h0 oh 3 (fn_X5_bits_4 k0 n l1 l2 h) h 4 [(1, cz_i l1), (2, cz_i l2)] [] := by
  intro n
  induction n with
  | zero => intros; exact ct_none
  | succ n ih =>
    intro l1 l2 h
    rw [fn_X5_bits_4]
    refine ct_iload_n (k := 1) S dX5_bits_4 rfl rfl ?_
    refine ct_if_eq (tgt := 20) S dX5_bits_5 (by decide) ?_ ?_
    · exact ct_sub [0] rfl (hk0 l1 h)
    · refine ct_iincL (j := 0) (L2 := fun x1 => [(1, cz_i x1), (2, cz_i l2)]) S dX5_bits_8 rfl kI_1 (by decide) (fun _ => rfl) (fun x1 => ?_)
      refine ct_iload_n (k := 1) S dX5_bits_11 rfl rfl ?_
      refine ct_iload_n (k := 1) S dX5_bits_12 rfl rfl ?_
      refine ct_iconst (v := 1) S dX5_bits_13 kI_1 ?_
      refine ct_isub S dX5_bits_14 ?_
      refine ct_iand S dX5_bits_15 ?_
      refine ct_leti (fun x2 => ?_)
      refine ct_istore_n (L' := [(2, cz_i x2), (1, cz_i x1)]) S dX5_bits_16 rfl (by decide) rfl ?_
      refine ct_goto (tgt := 4) S dX5_bits_17 (by decide) ?_
      exact ct_sub [1, 0] rfl (ih x1 x2 h)
set_option maxHeartbeats 4000000 in
set_option maxRecDepth 100000 in
noncomputable def fn_X5_bits (l0 : Int32) (h : cz_H) : cz_Z := fn_X5_bits_4 (fun (e3 : Int32) (h4 : cz_H) => some (.inl (some (cz_i e3)), h4)) 1000 0 l0 h
set_option maxHeartbeats 4000000 in
set_option maxRecDepth 100000 in
theorem wk_X5_bits {K : cz_K} {D : cz_D} {h0 : cz_H} {oh : cz_O × cz_H} {l0 : Int32} {h : cz_H} (S : cz_S K D h0 cX5_bits 3 "HeldCoatsModel" ((Option.some Jvm.ClassFile.FieldType.int)) "bits" ([])) : cz_T K D 2 h0 oh 3 (fn_X5_bits l0 h) h 0 [(0, cz_i l0)] [] := by
  unfold fn_X5_bits
  refine ct_iconst (v := 0) S dX5_bits_0 kI_0 ?_
  refine ct_istore_n (L' := [(1, cz_i 0), (0, cz_i l0)]) S dX5_bits_1 rfl (by decide) rfl ?_
  refine ct_iload_n (k := 1) S dX5_bits_2 rfl rfl ?_
  refine ct_istore_n (L' := [(2, cz_i l0), (1, cz_i 0), (0, cz_i l0)]) S dX5_bits_3 rfl (by decide) rfl ?_
  refine ct_sub [1, 0] (L' := [(1, cz_i 0), (2, cz_i l0)]) rfl (wk_X5_bits_4 S ?_ 1000 0 l0 h)
  · intro e3 h4
    refine ct_iload_n (k := 0) S dX5_bits_20 rfl rfl ?_
    exact ct_iret S rfl dX5_bits_21
theorem mt_X5_bits {l : Launch} {D : cz_D} {l0 : Int32} {h : cz_H} {oh : cz_O × cz_H} (hz : fn_X5_bits l0 h = some oh) : cz_M l D yX5_bits (ws_ yX5_bits cX5_bits 3 ((Option.some Jvm.ClassFile.FieldType.int))) 2 [cz_i l0] h oh := cz_met (plainFor_of_name (by decide)) (Nat.le_of_ble_eq_true rfl) hz (fun K hl S => wk_X5_bits S)
/-! HeldCoatsModel.isMan(I)Z -/
def dkwX5_isMan_0 : List UInt8 := [27, 3, 42, 180, 0, 33, 4, 46, 4, 100, 184, 0, 171, 172]
abbrev dktX5_isMan_0 : List UInt8 := dkwX5_isMan_0 ++ []
theorem dksX5_isMan_0 : cX5_isMan.data.toList.drop 0 = dktX5_isMan_0 := by decide +kernel
theorem dX5_isMan_0 : decode cX5_isMan 0 = .ok (.iload_n 1, 1) := dk_27 (dk_at dksX5_isMan_0 0 rfl rfl)
theorem dX5_isMan_1 : decode cX5_isMan 1 = .ok (.iconst 0, 1) := dk_3 (dk_at dksX5_isMan_0 1 rfl rfl)
theorem dX5_isMan_2 : decode cX5_isMan 2 = .ok (.aload_n 0, 1) := dk_42 (dk_at dksX5_isMan_0 2 rfl rfl)
theorem dX5_isMan_3 : decode cX5_isMan 3 = .ok (.getfield 33, 3) := dk_180 0 33 (dk_at dksX5_isMan_0 3 rfl rfl)
theorem dX5_isMan_6 : decode cX5_isMan 6 = .ok (.iconst 1, 1) := dk_4 (dk_at dksX5_isMan_0 6 rfl rfl)
theorem dX5_isMan_7 : decode cX5_isMan 7 = .ok (.iaload, 1) := dk_46 (dk_at dksX5_isMan_0 7 rfl rfl)
theorem dX5_isMan_8 : decode cX5_isMan 8 = .ok (.iconst 1, 1) := dk_4 (dk_at dksX5_isMan_0 8 rfl rfl)
theorem dX5_isMan_9 : decode cX5_isMan 9 = .ok (.isub, 1) := dk_100 (dk_at dksX5_isMan_0 9 rfl rfl)
theorem dX5_isMan_10 : decode cX5_isMan 10 = .ok (.invokestatic 171, 3) := dk_184 0 171 (dk_at dksX5_isMan_0 10 rfl rfl)
theorem dX5_isMan_13 : decode cX5_isMan 13 = .ok (.ireturn, 1) := dk_172 (dk_at dksX5_isMan_0 13 rfl rfl)
set_option maxHeartbeats 4000000 in
set_option maxRecDepth 100000 in
noncomputable def fn_X5_isMan (l0 : Option Nat) (l1 : Int32) (h : cz_H) : cz_Z := cz_getR h l0 [(5, 6)] (fun r1 => cz_iald h r1 1 (fun x2 => cz_cI (fn_X5_isIn l1 0 (x2 - 1) h) (fun x4 h3 => cz_ckz x4 (some (.inl (some (cz_i x4)), h3)))))
set_option maxHeartbeats 4000000 in
set_option maxRecDepth 100000 in
theorem wk_X5_isMan {K : cz_K} {D : cz_D} {h0 : cz_H} {oh : cz_O × cz_H} {l0 : Option Nat} {l1 : Int32} {h : cz_H} (S : cz_S K D h0 cX5_isMan 2 "HeldCoatsModel" ((Option.some Jvm.ClassFile.FieldType.boolean)) "isMan" ([])) : cz_T K D 3 h0 oh 2 (fn_X5_isMan l0 l1 h) h 0 [(0, cz_r l0), (1, cz_i l1)] [] := by
  unfold fn_X5_isMan
  refine ct_iload_n (k := 1) S dX5_isMan_0 rfl rfl ?_
  refine ct_iconst (v := 0) S dX5_isMan_1 kI_0 ?_
  refine ct_aload_n (k := 0) S dX5_isMan_2 rfl rfl ?_
  refine ct_getR S fw_X5_33 dX5_isMan_3 (fun r1 => ?_)
  refine ct_iconst (v := 1) S dX5_isMan_6 kI_1 ?_
  refine ct_iald S dX5_isMan_7 (fun x2 => ?_)
  refine ct_iconst (v := 1) S dX5_isMan_8 kI_1 ?_
  refine ct_isub S dX5_isMan_9 ?_
  refine ct_cI (st := []) (cg_static (av := [cz_i l1, cz_i 0, cz_i (x2 - 1)]) S (fun _ e => mt_X5_isIn e) md_X5_isIn (Or.inl q2122) q2123 (by decide) (Nat.le_of_ble_eq_true rfl) rfl dX5_isMan_10) (fun x4 h3 => ?_)
  refine ct_ckz (fun hx => ?_)
  exact ct_zr (ty := .boolean) S rfl (cz_nz hx) dX5_isMan_13
theorem mt_X5_isMan {l : Launch} {D : cz_D} {l0 : Option Nat} {l1 : Int32} {h : cz_H} {oh : cz_O × cz_H} (hz : fn_X5_isMan l0 l1 h = some oh) : cz_M l D yX5_isMan (ws_ yX5_isMan cX5_isMan 2 ((Option.some Jvm.ClassFile.FieldType.boolean))) 3 [cz_r l0, cz_i l1] h oh := cz_met (plainFor_of_name (by decide)) (Nat.le_of_ble_eq_true rfl) hz (fun K hl S => wk_X5_isMan S)
/-! HeldCoatsModel.worthOf(I)I -/
def dkwX5_worthOf_5 : List UInt8 := [167, 255, 147, 29, 172]
abbrev dktX5_worthOf_5 : List UInt8 := dkwX5_worthOf_5 ++ []
def dkwX5_worthOf_4 : List UInt8 := [28, 4, 21, 5, 120, 128, 61, 29, 42, 180, 0, 33, 16, 8, 21, 5, 96, 46, 96, 62, 132, 4, 1]
abbrev dktX5_worthOf_4 : List UInt8 := dkwX5_worthOf_4 ++ dktX5_worthOf_5
def dkwX5_worthOf_3 : List UInt8 := [21, 5, 96, 46, 164, 0, 7, 21, 6, 54, 5, 132, 6, 1, 167, 255, 192, 21, 5, 156, 0, 5, 2, 172]
abbrev dktX5_worthOf_3 : List UInt8 := dkwX5_worthOf_3 ++ dktX5_worthOf_4
def dkwX5_worthOf_2 : List UInt8 := [156, 0, 35, 21, 5, 155, 0, 26, 42, 180, 0, 33, 16, 8, 21, 6, 96, 46, 42, 180, 0, 33, 16, 8]
abbrev dktX5_worthOf_2 : List UInt8 := dkwX5_worthOf_2 ++ dktX5_worthOf_3
def dkwX5_worthOf_1 : List UInt8 := [180, 0, 33, 3, 46, 162, 0, 59, 28, 21, 6, 184, 0, 196, 154, 0, 44, 42, 21, 6, 182, 0, 238]
abbrev dktX5_worthOf_1 : List UInt8 := dkwX5_worthOf_1 ++ dktX5_worthOf_2
def dkwX5_worthOf_0 : List UInt8 := [3, 61, 3, 62, 3, 54, 4, 21, 4, 27, 162, 0, 109, 2, 54, 5, 3, 54, 6, 21, 6, 42]
abbrev dktX5_worthOf_0 : List UInt8 := dkwX5_worthOf_0 ++ dktX5_worthOf_1
theorem dksX5_worthOf_0 : cX5_worthOf.data.toList.drop 0 = dktX5_worthOf_0 := by decide +kernel
theorem dksX5_worthOf_1 : cX5_worthOf.data.toList.drop 22 = dktX5_worthOf_1 := dk_seg dksX5_worthOf_0 22 rfl rfl
theorem dksX5_worthOf_2 : cX5_worthOf.data.toList.drop 45 = dktX5_worthOf_2 := dk_seg dksX5_worthOf_1 23 rfl rfl
theorem dksX5_worthOf_3 : cX5_worthOf.data.toList.drop 69 = dktX5_worthOf_3 := dk_seg dksX5_worthOf_2 24 rfl rfl
theorem dksX5_worthOf_4 : cX5_worthOf.data.toList.drop 93 = dktX5_worthOf_4 := dk_seg dksX5_worthOf_3 24 rfl rfl
theorem dksX5_worthOf_5 : cX5_worthOf.data.toList.drop 116 = dktX5_worthOf_5 := dk_seg dksX5_worthOf_4 23 rfl rfl
theorem dX5_worthOf_0 : decode cX5_worthOf 0 = .ok (.iconst 0, 1) := dk_3 (dk_at dksX5_worthOf_0 0 rfl rfl)
theorem dX5_worthOf_1 : decode cX5_worthOf 1 = .ok (.istore_n 2, 1) := dk_61 (dk_at dksX5_worthOf_0 1 rfl rfl)
theorem dX5_worthOf_2 : decode cX5_worthOf 2 = .ok (.iconst 0, 1) := dk_3 (dk_at dksX5_worthOf_0 2 rfl rfl)
theorem dX5_worthOf_3 : decode cX5_worthOf 3 = .ok (.istore_n 3, 1) := dk_62 (dk_at dksX5_worthOf_0 3 rfl rfl)
theorem dX5_worthOf_4 : decode cX5_worthOf 4 = .ok (.iconst 0, 1) := dk_3 (dk_at dksX5_worthOf_0 4 rfl rfl)
theorem dX5_worthOf_5 : decode cX5_worthOf 5 = .ok (.istore 4, 2) := dk_54 4 (dk_at dksX5_worthOf_0 5 rfl rfl)
theorem dX5_worthOf_7 : decode cX5_worthOf 7 = .ok (.iload 4, 2) := dk_21 4 (dk_at dksX5_worthOf_0 7 rfl rfl)
theorem dX5_worthOf_9 : decode cX5_worthOf 9 = .ok (.iload_n 1, 1) := dk_27 (dk_at dksX5_worthOf_0 9 rfl rfl)
theorem dX5_worthOf_10 : decode cX5_worthOf 10 = .ok (.if_icmp .ge 109, 3) := dk_162 0 109 (dk_at dksX5_worthOf_0 10 rfl rfl)
theorem dX5_worthOf_13 : decode cX5_worthOf 13 = .ok (.iconst (-1), 1) := dk_2 (dk_at dksX5_worthOf_0 13 rfl rfl)
theorem dX5_worthOf_14 : decode cX5_worthOf 14 = .ok (.istore 5, 2) := dk_54 5 (dk_at dksX5_worthOf_0 14 rfl rfl)
theorem dX5_worthOf_16 : decode cX5_worthOf 16 = .ok (.iconst 0, 1) := dk_3 (dk_at dksX5_worthOf_0 16 rfl rfl)
theorem dX5_worthOf_17 : decode cX5_worthOf 17 = .ok (.istore 6, 2) := dk_54 6 (dk_at dksX5_worthOf_0 17 rfl rfl)
theorem dX5_worthOf_19 : decode cX5_worthOf 19 = .ok (.iload 6, 2) := dk_21 6 (dk_at dksX5_worthOf_0 19 rfl rfl)
theorem dX5_worthOf_21 : decode cX5_worthOf 21 = .ok (.aload_n 0, 1) := dk_42 (dk_at dksX5_worthOf_0 21 rfl rfl)
theorem dX5_worthOf_22 : decode cX5_worthOf 22 = .ok (.getfield 33, 3) := dk_180 0 33 (dk_at dksX5_worthOf_1 0 rfl rfl)
theorem dX5_worthOf_25 : decode cX5_worthOf 25 = .ok (.iconst 0, 1) := dk_3 (dk_at dksX5_worthOf_1 3 rfl rfl)
theorem dX5_worthOf_26 : decode cX5_worthOf 26 = .ok (.iaload, 1) := dk_46 (dk_at dksX5_worthOf_1 4 rfl rfl)
theorem dX5_worthOf_27 : decode cX5_worthOf 27 = .ok (.if_icmp .ge 59, 3) := dk_162 0 59 (dk_at dksX5_worthOf_1 5 rfl rfl)
theorem dX5_worthOf_30 : decode cX5_worthOf 30 = .ok (.iload_n 2, 1) := dk_28 (dk_at dksX5_worthOf_1 8 rfl rfl)
theorem dX5_worthOf_31 : decode cX5_worthOf 31 = .ok (.iload 6, 2) := dk_21 6 (dk_at dksX5_worthOf_1 9 rfl rfl)
theorem dX5_worthOf_33 : decode cX5_worthOf 33 = .ok (.invokestatic 196, 3) := dk_184 0 196 (dk_at dksX5_worthOf_1 11 rfl rfl)
theorem dX5_worthOf_36 : decode cX5_worthOf 36 = .ok (.ifCond .ne 44, 3) := dk_154 0 44 (dk_at dksX5_worthOf_1 14 rfl rfl)
theorem dX5_worthOf_39 : decode cX5_worthOf 39 = .ok (.aload_n 0, 1) := dk_42 (dk_at dksX5_worthOf_1 17 rfl rfl)
theorem dX5_worthOf_40 : decode cX5_worthOf 40 = .ok (.iload 6, 2) := dk_21 6 (dk_at dksX5_worthOf_1 18 rfl rfl)
theorem dX5_worthOf_42 : decode cX5_worthOf 42 = .ok (.invokevirtual 238, 3) := dk_182 0 238 (dk_at dksX5_worthOf_1 20 rfl rfl)
theorem dX5_worthOf_45 : decode cX5_worthOf 45 = .ok (.ifCond .ge 35, 3) := dk_156 0 35 (dk_at dksX5_worthOf_2 0 rfl rfl)
theorem dX5_worthOf_48 : decode cX5_worthOf 48 = .ok (.iload 5, 2) := dk_21 5 (dk_at dksX5_worthOf_2 3 rfl rfl)
theorem dX5_worthOf_50 : decode cX5_worthOf 50 = .ok (.ifCond .lt 26, 3) := dk_155 0 26 (dk_at dksX5_worthOf_2 5 rfl rfl)
theorem dX5_worthOf_53 : decode cX5_worthOf 53 = .ok (.aload_n 0, 1) := dk_42 (dk_at dksX5_worthOf_2 8 rfl rfl)
theorem dX5_worthOf_54 : decode cX5_worthOf 54 = .ok (.getfield 33, 3) := dk_180 0 33 (dk_at dksX5_worthOf_2 9 rfl rfl)
theorem dX5_worthOf_57 : decode cX5_worthOf 57 = .ok (.bipush 8, 2) := dk_16 8 (dk_at dksX5_worthOf_2 12 rfl rfl)
theorem dX5_worthOf_59 : decode cX5_worthOf 59 = .ok (.iload 6, 2) := dk_21 6 (dk_at dksX5_worthOf_2 14 rfl rfl)
theorem dX5_worthOf_61 : decode cX5_worthOf 61 = .ok (.iadd, 1) := dk_96 (dk_at dksX5_worthOf_2 16 rfl rfl)
theorem dX5_worthOf_62 : decode cX5_worthOf 62 = .ok (.iaload, 1) := dk_46 (dk_at dksX5_worthOf_2 17 rfl rfl)
theorem dX5_worthOf_63 : decode cX5_worthOf 63 = .ok (.aload_n 0, 1) := dk_42 (dk_at dksX5_worthOf_2 18 rfl rfl)
theorem dX5_worthOf_64 : decode cX5_worthOf 64 = .ok (.getfield 33, 3) := dk_180 0 33 (dk_at dksX5_worthOf_2 19 rfl rfl)
theorem dX5_worthOf_67 : decode cX5_worthOf 67 = .ok (.bipush 8, 2) := dk_16 8 (dk_at dksX5_worthOf_2 22 rfl rfl)
theorem dX5_worthOf_69 : decode cX5_worthOf 69 = .ok (.iload 5, 2) := dk_21 5 (dk_at dksX5_worthOf_3 0 rfl rfl)
theorem dX5_worthOf_71 : decode cX5_worthOf 71 = .ok (.iadd, 1) := dk_96 (dk_at dksX5_worthOf_3 2 rfl rfl)
theorem dX5_worthOf_72 : decode cX5_worthOf 72 = .ok (.iaload, 1) := dk_46 (dk_at dksX5_worthOf_3 3 rfl rfl)
theorem dX5_worthOf_73 : decode cX5_worthOf 73 = .ok (.if_icmp .le 7, 3) := dk_164 0 7 (dk_at dksX5_worthOf_3 4 rfl rfl)
theorem dX5_worthOf_76 : decode cX5_worthOf 76 = .ok (.iload 6, 2) := dk_21 6 (dk_at dksX5_worthOf_3 7 rfl rfl)
theorem dX5_worthOf_78 : decode cX5_worthOf 78 = .ok (.istore 5, 2) := dk_54 5 (dk_at dksX5_worthOf_3 9 rfl rfl)
theorem dX5_worthOf_80 : decode cX5_worthOf 80 = .ok (.iinc 6 1, 3) := dk_132 6 1 (dk_at dksX5_worthOf_3 11 rfl rfl)
theorem dX5_worthOf_83 : decode cX5_worthOf 83 = .ok (.goto (-64), 3) := dk_167 255 192 (dk_at dksX5_worthOf_3 14 rfl rfl)
theorem dX5_worthOf_86 : decode cX5_worthOf 86 = .ok (.iload 5, 2) := dk_21 5 (dk_at dksX5_worthOf_3 17 rfl rfl)
theorem dX5_worthOf_88 : decode cX5_worthOf 88 = .ok (.ifCond .ge 5, 3) := dk_156 0 5 (dk_at dksX5_worthOf_3 19 rfl rfl)
theorem dX5_worthOf_91 : decode cX5_worthOf 91 = .ok (.iconst (-1), 1) := dk_2 (dk_at dksX5_worthOf_3 22 rfl rfl)
theorem dX5_worthOf_92 : decode cX5_worthOf 92 = .ok (.ireturn, 1) := dk_172 (dk_at dksX5_worthOf_3 23 rfl rfl)
theorem dX5_worthOf_93 : decode cX5_worthOf 93 = .ok (.iload_n 2, 1) := dk_28 (dk_at dksX5_worthOf_4 0 rfl rfl)
theorem dX5_worthOf_94 : decode cX5_worthOf 94 = .ok (.iconst 1, 1) := dk_4 (dk_at dksX5_worthOf_4 1 rfl rfl)
theorem dX5_worthOf_95 : decode cX5_worthOf 95 = .ok (.iload 5, 2) := dk_21 5 (dk_at dksX5_worthOf_4 2 rfl rfl)
theorem dX5_worthOf_97 : decode cX5_worthOf 97 = .ok (.ishl, 1) := dk_120 (dk_at dksX5_worthOf_4 4 rfl rfl)
theorem dX5_worthOf_98 : decode cX5_worthOf 98 = .ok (.ior, 1) := dk_128 (dk_at dksX5_worthOf_4 5 rfl rfl)
theorem dX5_worthOf_99 : decode cX5_worthOf 99 = .ok (.istore_n 2, 1) := dk_61 (dk_at dksX5_worthOf_4 6 rfl rfl)
theorem dX5_worthOf_100 : decode cX5_worthOf 100 = .ok (.iload_n 3, 1) := dk_29 (dk_at dksX5_worthOf_4 7 rfl rfl)
theorem dX5_worthOf_101 : decode cX5_worthOf 101 = .ok (.aload_n 0, 1) := dk_42 (dk_at dksX5_worthOf_4 8 rfl rfl)
theorem dX5_worthOf_102 : decode cX5_worthOf 102 = .ok (.getfield 33, 3) := dk_180 0 33 (dk_at dksX5_worthOf_4 9 rfl rfl)
theorem dX5_worthOf_105 : decode cX5_worthOf 105 = .ok (.bipush 8, 2) := dk_16 8 (dk_at dksX5_worthOf_4 12 rfl rfl)
theorem dX5_worthOf_107 : decode cX5_worthOf 107 = .ok (.iload 5, 2) := dk_21 5 (dk_at dksX5_worthOf_4 14 rfl rfl)
theorem dX5_worthOf_109 : decode cX5_worthOf 109 = .ok (.iadd, 1) := dk_96 (dk_at dksX5_worthOf_4 16 rfl rfl)
theorem dX5_worthOf_110 : decode cX5_worthOf 110 = .ok (.iaload, 1) := dk_46 (dk_at dksX5_worthOf_4 17 rfl rfl)
theorem dX5_worthOf_111 : decode cX5_worthOf 111 = .ok (.iadd, 1) := dk_96 (dk_at dksX5_worthOf_4 18 rfl rfl)
theorem dX5_worthOf_112 : decode cX5_worthOf 112 = .ok (.istore_n 3, 1) := dk_62 (dk_at dksX5_worthOf_4 19 rfl rfl)
theorem dX5_worthOf_113 : decode cX5_worthOf 113 = .ok (.iinc 4 1, 3) := dk_132 4 1 (dk_at dksX5_worthOf_4 20 rfl rfl)
theorem dX5_worthOf_116 : decode cX5_worthOf 116 = .ok (.goto (-109), 3) := dk_167 255 147 (dk_at dksX5_worthOf_5 0 rfl rfl)
theorem dX5_worthOf_119 : decode cX5_worthOf 119 = .ok (.iload_n 3, 1) := dk_29 (dk_at dksX5_worthOf_5 3 rfl rfl)
theorem dX5_worthOf_120 : decode cX5_worthOf 120 = .ok (.ireturn, 1) := dk_172 (dk_at dksX5_worthOf_5 4 rfl rfl)
set_option maxHeartbeats 4000000 in
set_option maxRecDepth 100000 in
noncomputable def fn_X5_worthOf_19 (l0 : Option Nat) (l2 : Int32) (k0 : Int32 → cz_H → cz_Z) : Nat → Int32 → Int32 → cz_H → cz_Z
  | 0, _, _, _ => none
  | n + 1, l5, l6, h => cz_getR h l0 [(5, 6)] (fun r1 => cz_iald h r1 0 (fun x2 => (if x2 ≤ l6 then k0 l5 h else cz_cI (fn_X5_bitOf l2 l6 h) (fun x4 h3 => (if x4 = 0 then cz_rc h3 l0 [5] (cz_cI (fn_X5_coatOn l0 l6 h3) (fun x13 h12 => (if 0 ≤ x13 then cz_leti (l6 + 1) (fun x14 => fn_X5_worthOf_19 l0 l2 k0 n l5 x14 h12) else (if l5 < 0 then cz_leti (l6 + 1) (fun x15 => fn_X5_worthOf_19 l0 l2 k0 n l6 x15 h12) else cz_getR h12 l0 [(5, 6)] (fun r16 => cz_iald h12 r16 ((8 : Int32) + l6) (fun x17 => cz_getR h12 l0 [(5, 6)] (fun r18 => cz_iald h12 r18 ((8 : Int32) + l5) (fun x19 => (if x17 ≤ x19 then cz_leti (l6 + 1) (fun x20 => fn_X5_worthOf_19 l0 l2 k0 n l5 x20 h12) else cz_leti (l6 + 1) (fun x21 => fn_X5_worthOf_19 l0 l2 k0 n l6 x21 h12)))))))))) else cz_leti (l6 + 1) (fun x5 => fn_X5_worthOf_19 l0 l2 k0 n l5 x5 h3))))))
set_option maxHeartbeats 4000000 in
set_option maxRecDepth 100000 in
theorem wk_X5_worthOf_19 {K : cz_K} {D : cz_D} {h0 : cz_H} {oh : cz_O × cz_H} {l0 : Option Nat} {l2 : Int32} {l1 : Int32} {l3 : Int32} {l4 : Int32} {k0 : Int32 → cz_H → cz_Z} (S : cz_S K D h0 cX5_worthOf 7 "HeldCoatsModel" ((Option.some Jvm.ClassFile.FieldType.int)) "worthOf" ([])) (hk0 : ∀ (e5 : Int32) (h : cz_H), cz_T K D 3 h0 oh 7 (k0 e5 h) h 86 [(0, cz_r l0), (1, cz_i l1), (2, cz_i l2), (3, cz_i l3), (4, cz_i l4), (5, cz_i e5)] []) : ∀ (n : Nat) (l5 : Int32) (l6 : Int32) (h : cz_H), cz_T K D 3 h0 oh 7 (fn_X5_worthOf_19 l0 l2 k0 n l5 l6 h) h 19 [(0, cz_r l0), (1, cz_i l1), (2, cz_i l2), (3, cz_i l3), (4, cz_i l4), (5, cz_i l5), (6, cz_i l6)] [] := by
  intro n
  induction n with
  | zero => intros; exact ct_none
  | succ n ih =>
    intro l5 l6 h
    rw [fn_X5_worthOf_19]
    refine ct_iload (k := 6) S dX5_worthOf_19 rfl ?_
    refine ct_aload_n (k := 0) S dX5_worthOf_21 rfl rfl ?_
    refine ct_getR S fw_X5_33 dX5_worthOf_22 (fun r1 => ?_)
    refine ct_iconst (v := 0) S dX5_worthOf_25 kI_0 ?_
    refine ct_iald S dX5_worthOf_26 (fun x2 => ?_)
    refine ct_icmp_ge (tgt := 86) S dX5_worthOf_27 (by decide) ?_ ?_
    · exact ct_sub [0, 1, 2, 3, 4, 5] rfl (hk0 l5 h)
    · refine ct_iload_n (k := 2) S dX5_worthOf_30 rfl rfl ?_
      refine ct_iload (k := 6) S dX5_worthOf_31 rfl ?_
      refine ct_cI (st := []) (cg_static (av := [cz_i l2, cz_i l6]) S (fun _ e => mt_X5_bitOf e) md_X5_bitOf (Or.inl q2141) q2142 (by decide) (Nat.le_of_ble_eq_true rfl) rfl dX5_worthOf_33) (fun x4 h3 => ?_)
      refine ct_if_ne (tgt := 80) S dX5_worthOf_36 (by decide) ?_ ?_
      · refine ct_iincL (j := 6) (L2 := fun x5 => [(6, cz_i x5), (0, cz_r l0), (1, cz_i l1), (2, cz_i l2), (3, cz_i l3), (4, cz_i l4), (5, cz_i l5)]) S dX5_worthOf_80 rfl kI_1 (by decide) (fun _ => rfl) (fun x5 => ?_)
        refine ct_goto (tgt := 19) S dX5_worthOf_83 (by decide) ?_
        exact ct_sub [1, 2, 3, 4, 5, 6, 0] rfl (ih l5 x5 h3)
      · refine ct_aload_n (k := 0) S dX5_worthOf_39 rfl rfl ?_
        refine ct_iload (k := 6) S dX5_worthOf_40 rfl ?_
        refine ct_rc (fun b6 ci7 V8 hb9 hc10 hi11 => ?_)
        refine ct_cI (st := []) (cg_virtual (av := [cz_i l6]) S hb9 hc10 hi11 (fun _ e => mt_X5_coatOn e) md_X5_coatOn q2164 q2166 se_HeldCoatsModel_coatOn__I_I_HeldCoatsModel (by decide) (Nat.le_of_ble_eq_true rfl) rfl dX5_worthOf_42) (fun x13 h12 => ?_)
        refine ct_if_ge (tgt := 80) S dX5_worthOf_45 (by decide) ?_ ?_
        · refine ct_iincL (j := 6) (L2 := fun x14 => [(6, cz_i x14), (0, cz_r l0), (1, cz_i l1), (2, cz_i l2), (3, cz_i l3), (4, cz_i l4), (5, cz_i l5)]) S dX5_worthOf_80 rfl kI_1 (by decide) (fun _ => rfl) (fun x14 => ?_)
          refine ct_goto (tgt := 19) S dX5_worthOf_83 (by decide) ?_
          exact ct_sub [1, 2, 3, 4, 5, 6, 0] rfl (ih l5 x14 h12)
        · refine ct_iload (k := 5) S dX5_worthOf_48 rfl ?_
          refine ct_if_lt (tgt := 76) S dX5_worthOf_50 (by decide) ?_ ?_
          · refine ct_iload (k := 6) S dX5_worthOf_76 rfl ?_
            refine ct_istore (L' := [(5, cz_i l6), (0, cz_r l0), (1, cz_i l1), (2, cz_i l2), (3, cz_i l3), (4, cz_i l4), (6, cz_i l6)]) S dX5_worthOf_78 (by decide) rfl ?_
            refine ct_iincL (j := 6) (L2 := fun x15 => [(6, cz_i x15), (5, cz_i l6), (0, cz_r l0), (1, cz_i l1), (2, cz_i l2), (3, cz_i l3), (4, cz_i l4)]) S dX5_worthOf_80 rfl kI_1 (by decide) (fun _ => rfl) (fun x15 => ?_)
            refine ct_goto (tgt := 19) S dX5_worthOf_83 (by decide) ?_
            exact ct_sub [2, 3, 4, 5, 6, 1, 0] rfl (ih l6 x15 h12)
          · refine ct_aload_n (k := 0) S dX5_worthOf_53 rfl rfl ?_
            refine ct_getR S fw_X5_33 dX5_worthOf_54 (fun r16 => ?_)
            refine ct_bipush (v := 8) S dX5_worthOf_57 kB_8 ?_
            refine ct_iload (k := 6) S dX5_worthOf_59 rfl ?_
            refine ct_iadd S dX5_worthOf_61 ?_
            refine ct_iald S dX5_worthOf_62 (fun x17 => ?_)
            refine ct_aload_n (k := 0) S dX5_worthOf_63 rfl rfl ?_
            refine ct_getR S fw_X5_33 dX5_worthOf_64 (fun r18 => ?_)
            refine ct_bipush (v := 8) S dX5_worthOf_67 kB_8 ?_
            refine ct_iload (k := 5) S dX5_worthOf_69 rfl ?_
            refine ct_iadd S dX5_worthOf_71 ?_
            refine ct_iald S dX5_worthOf_72 (fun x19 => ?_)
            refine ct_icmp_le (tgt := 80) S dX5_worthOf_73 (by decide) ?_ ?_
            · refine ct_iincL (j := 6) (L2 := fun x20 => [(6, cz_i x20), (0, cz_r l0), (1, cz_i l1), (2, cz_i l2), (3, cz_i l3), (4, cz_i l4), (5, cz_i l5)]) S dX5_worthOf_80 rfl kI_1 (by decide) (fun _ => rfl) (fun x20 => ?_)
              refine ct_goto (tgt := 19) S dX5_worthOf_83 (by decide) ?_
              exact ct_sub [1, 2, 3, 4, 5, 6, 0] rfl (ih l5 x20 h12)
            · refine ct_iload (k := 6) S dX5_worthOf_76 rfl ?_
              refine ct_istore (L' := [(5, cz_i l6), (0, cz_r l0), (1, cz_i l1), (2, cz_i l2), (3, cz_i l3), (4, cz_i l4), (6, cz_i l6)]) S dX5_worthOf_78 (by decide) rfl ?_
              refine ct_iincL (j := 6) (L2 := fun x21 => [(6, cz_i x21), (5, cz_i l6), (0, cz_r l0), (1, cz_i l1), (2, cz_i l2), (3, cz_i l3), (4, cz_i l4)]) S dX5_worthOf_80 rfl kI_1 (by decide) (fun _ => rfl) (fun x21 => ?_)
              refine ct_goto (tgt := 19) S dX5_worthOf_83 (by decide) ?_
              exact ct_sub [2, 3, 4, 5, 6, 1, 0] rfl (ih l6 x21 h12)
set_option maxHeartbeats 4000000 in
set_option maxRecDepth 100000 in
noncomputable def fn_X5_worthOf_7 (l0 : Option Nat) (l1 : Int32) (k0 : cz_H → cz_Z) (k1 : Int32 → cz_H → cz_Z) : Nat → Int32 → Int32 → Int32 → cz_H → cz_Z
  | 0, _, _, _, _ => none
  | n + 1, l2, l3, l4, h => (if l1 ≤ l4 then k1 l3 h else fn_X5_worthOf_19 l0 l2 (fun (e22 : Int32) (h23 : cz_H) => (if 0 ≤ e22 then cz_leti (l2 ||| ((1 : Int32) <<< (e22 &&& 31))) (fun x24 => cz_getR h23 l0 [(5, 6)] (fun r25 => cz_iald h23 r25 ((8 : Int32) + e22) (fun x26 => cz_leti (l3 + x26) (fun x27 => cz_leti (l4 + 1) (fun x28 => fn_X5_worthOf_7 l0 l1 k0 k1 n x24 x27 x28 h23))))) else k0 h23)) 1000 (-1) 0 h)
set_option maxHeartbeats 4000000 in
set_option maxRecDepth 100000 in
theorem wk_X5_worthOf_7 {K : cz_K} {D : cz_D} {h0 : cz_H} {oh : cz_O × cz_H} {l0 : Option Nat} {l1 : Int32} {k0 : cz_H → cz_Z} {k1 : Int32 → cz_H → cz_Z} (S : cz_S K D h0 cX5_worthOf 7 "HeldCoatsModel" ((Option.some Jvm.ClassFile.FieldType.int)) "worthOf" ([])) (hk0 : ∀ (h : cz_H), cz_T K D 3 h0 oh 7 (k0 h) h 91 [] []) (hk1 : ∀ (e3 : Int32) (h : cz_H), cz_T K D 3 h0 oh 7 (k1 e3 h) h 119 [(3, cz_i e3)] []) : ∀ (n : Nat) (l2 : Int32) (l3 : Int32) (l4 : Int32) (h : cz_H), cz_T K D 3 h0 oh 7 (fn_X5_worthOf_7 l0 l1 k0 k1 n l2 l3 l4 h) h 7 [(0, cz_r l0), (1, cz_i l1), (2, cz_i l2), (3, cz_i l3), (4, cz_i l4)] [] := by
  intro n
  induction n with
  | zero => intros; exact ct_none
  | succ n ih =>
    intro l2 l3 l4 h
    rw [fn_X5_worthOf_7]
    refine ct_iload (k := 4) S dX5_worthOf_7 rfl ?_
    refine ct_iload_n (k := 1) S dX5_worthOf_9 rfl rfl ?_
    refine ct_icmp_ge (tgt := 119) S dX5_worthOf_10 (by decide) ?_ ?_
    · exact ct_sub [3] rfl (hk1 l3 h)
    · refine ct_iconst (v := (-1)) S dX5_worthOf_13 kI_m1 ?_
      refine ct_istore (L' := [(5, cz_i (-1)), (0, cz_r l0), (1, cz_i l1), (2, cz_i l2), (3, cz_i l3), (4, cz_i l4)]) S dX5_worthOf_14 (by decide) rfl ?_
      refine ct_iconst (v := 0) S dX5_worthOf_16 kI_0 ?_
      refine ct_istore (L' := [(6, cz_i 0), (5, cz_i (-1)), (0, cz_r l0), (1, cz_i l1), (2, cz_i l2), (3, cz_i l3), (4, cz_i l4)]) S dX5_worthOf_17 (by decide) rfl ?_
      refine ct_sub [2, 3, 4, 5, 6, 1, 0] (L' := [(0, cz_r l0), (1, cz_i l1), (2, cz_i l2), (3, cz_i l3), (4, cz_i l4), (5, cz_i (-1)), (6, cz_i 0)]) rfl (wk_X5_worthOf_19 S ?_ 1000 (-1) 0 h)
      · intro e22 h23
        refine ct_iload (k := 5) S dX5_worthOf_86 rfl ?_
        refine ct_if_ge (tgt := 93) S dX5_worthOf_88 (by decide) ?_ ?_
        · refine ct_iload_n (k := 2) S dX5_worthOf_93 rfl rfl ?_
          refine ct_iconst (v := 1) S dX5_worthOf_94 kI_1 ?_
          refine ct_iload (k := 5) S dX5_worthOf_95 rfl ?_
          refine ct_ishl S dX5_worthOf_97 ?_
          refine ct_ior S dX5_worthOf_98 ?_
          refine ct_leti (fun x24 => ?_)
          refine ct_istore_n (L' := [(2, cz_i x24), (0, cz_r l0), (1, cz_i l1), (3, cz_i l3), (4, cz_i l4), (5, cz_i e22)]) S dX5_worthOf_99 rfl (by decide) rfl ?_
          refine ct_iload_n (k := 3) S dX5_worthOf_100 rfl rfl ?_
          refine ct_aload_n (k := 1) S dX5_worthOf_101 rfl rfl ?_
          refine ct_getR S fw_X5_33 dX5_worthOf_102 (fun r25 => ?_)
          refine ct_bipush (v := 8) S dX5_worthOf_105 kB_8 ?_
          refine ct_iload (k := 5) S dX5_worthOf_107 rfl ?_
          refine ct_iadd S dX5_worthOf_109 ?_
          refine ct_iald S dX5_worthOf_110 (fun x26 => ?_)
          refine ct_iadd S dX5_worthOf_111 ?_
          refine ct_leti (fun x27 => ?_)
          refine ct_istore_n (L' := [(3, cz_i x27), (2, cz_i x24), (0, cz_r l0), (1, cz_i l1), (4, cz_i l4), (5, cz_i e22)]) S dX5_worthOf_112 rfl (by decide) rfl ?_
          refine ct_iincL (j := 4) (L2 := fun x28 => [(4, cz_i x28), (3, cz_i x27), (2, cz_i x24), (0, cz_r l0), (1, cz_i l1), (5, cz_i e22)]) S dX5_worthOf_113 rfl kI_1 (by decide) (fun _ => rfl) (fun x28 => ?_)
          refine ct_goto (tgt := 7) S dX5_worthOf_116 (by decide) ?_
          exact ct_sub [3, 4, 2, 1, 0] rfl (ih x24 x27 x28 h23)
        · exact ct_sub [] rfl (hk0 h23)
set_option maxHeartbeats 4000000 in
set_option maxRecDepth 100000 in
noncomputable def fn_X5_worthOf (l0 : Option Nat) (l1 : Int32) (h : cz_H) : cz_Z := fn_X5_worthOf_7 l0 l1 (fun (h29 : cz_H) => some (.inl (some (cz_i (-1))), h29)) (fun (e30 : Int32) (h31 : cz_H) => some (.inl (some (cz_i e30)), h31)) 1000 0 0 0 h
set_option maxHeartbeats 4000000 in
set_option maxRecDepth 100000 in
theorem wk_X5_worthOf {K : cz_K} {D : cz_D} {h0 : cz_H} {oh : cz_O × cz_H} {l0 : Option Nat} {l1 : Int32} {h : cz_H} (S : cz_S K D h0 cX5_worthOf 7 "HeldCoatsModel" ((Option.some Jvm.ClassFile.FieldType.int)) "worthOf" ([])) : cz_T K D 3 h0 oh 7 (fn_X5_worthOf l0 l1 h) h 0 [(0, cz_r l0), (1, cz_i l1)] [] := by
  unfold fn_X5_worthOf
  refine ct_iconst (v := 0) S dX5_worthOf_0 kI_0 ?_
  refine ct_istore_n (L' := [(2, cz_i 0), (0, cz_r l0), (1, cz_i l1)]) S dX5_worthOf_1 rfl (by decide) rfl ?_
  refine ct_iconst (v := 0) S dX5_worthOf_2 kI_0 ?_
  refine ct_istore_n (L' := [(3, cz_i 0), (2, cz_i 0), (0, cz_r l0), (1, cz_i l1)]) S dX5_worthOf_3 rfl (by decide) rfl ?_
  refine ct_iconst (v := 0) S dX5_worthOf_4 kI_0 ?_
  refine ct_istore (L' := [(4, cz_i 0), (3, cz_i 0), (2, cz_i 0), (0, cz_r l0), (1, cz_i l1)]) S dX5_worthOf_5 (by decide) rfl ?_
  refine ct_sub [3, 4, 2, 1, 0] (L' := [(0, cz_r l0), (1, cz_i l1), (2, cz_i 0), (3, cz_i 0), (4, cz_i 0)]) rfl (wk_X5_worthOf_7 S ?_ ?_ 1000 0 0 0 h)
  · intro h29
    refine ct_iconst (v := (-1)) S dX5_worthOf_91 kI_m1 ?_
    exact ct_iret S rfl dX5_worthOf_92
  · intro e30 h31
    refine ct_iload_n (k := 0) S dX5_worthOf_119 rfl rfl ?_
    exact ct_iret S rfl dX5_worthOf_120
theorem mt_X5_worthOf {l : Launch} {D : cz_D} {l0 : Option Nat} {l1 : Int32} {h : cz_H} {oh : cz_O × cz_H} (hz : fn_X5_worthOf l0 l1 h = some oh) : cz_M l D yX5_worthOf (ws_ yX5_worthOf cX5_worthOf 7 ((Option.some Jvm.ClassFile.FieldType.int))) 3 [cz_r l0, cz_i l1] h oh := cz_met (plainFor_of_name (by decide)) (Nat.le_of_ble_eq_true rfl) hz (fun K hl S => wk_X5_worthOf S)
/-! HeldCoatsModel.best(II)I -/
def dkwX5_best_7 : List UInt8 := [54, 5, 42, 21, 6, 181, 1, 73, 42, 4, 181, 1, 76, 132, 6, 1, 167, 255, 165, 21, 5, 172]
abbrev dktX5_best_7 : List UInt8 := dkwX5_best_7 ++ []
def dkwX5_best_6 : List UInt8 := [184, 1, 67, 182, 1, 70, 21, 5, 163, 0, 6, 167, 0, 25, 42, 21, 6, 184, 1, 67, 182, 1, 70]
abbrev dktX5_best_6 : List UInt8 := dkwX5_best_6 ++ dktX5_best_7
def dkwX5_best_5 : List UInt8 := [21, 6, 2, 130, 126, 182, 1, 0, 54, 7, 21, 7, 21, 7, 104, 28, 163, 0, 42, 42, 21, 6]
abbrev dktX5_best_5 : List UInt8 := dkwX5_best_5 ++ dktX5_best_6
def dkwX5_best_4 : List UInt8 := [21, 6, 21, 4, 2, 130, 126, 153, 0, 6, 167, 0, 71, 42, 27, 42, 180, 0, 33, 16, 62, 46, 29]
abbrev dktX5_best_4 : List UInt8 := dkwX5_best_4 ++ dktX5_best_5
def dkwX5_best_3 : List UInt8 := [130, 126, 54, 4, 132, 5, 1, 167, 255, 217, 2, 54, 5, 3, 54, 6, 21, 6, 21, 4, 163, 0, 90]
abbrev dktX5_best_3 : List UInt8 := dkwX5_best_3 ++ dktX5_best_4
def dkwX5_best_2 : List UInt8 := [162, 0, 34, 42, 180, 0, 33, 16, 22, 21, 5, 96, 46, 27, 159, 0, 14, 21, 4, 4, 21, 5, 120, 2]
abbrev dktX5_best_2 : List UInt8 := dkwX5_best_2 ++ dktX5_best_3
def dkwX5_best_1 : List UInt8 := [2, 172, 42, 27, 182, 0, 253, 62, 29, 54, 4, 3, 54, 5, 21, 5, 42, 180, 0, 33, 5, 46]
abbrev dktX5_best_1 : List UInt8 := dkwX5_best_1 ++ dktX5_best_2
def dkwX5_best_0 : List UInt8 := [42, 3, 181, 0, 1, 42, 27, 182, 1, 14, 153, 0, 14, 28, 3, 17, 3, 231, 184, 0, 171, 154, 0, 5]
abbrev dktX5_best_0 : List UInt8 := dkwX5_best_0 ++ dktX5_best_1
theorem dksX5_best_0 : cX5_best.data.toList.drop 0 = dktX5_best_0 := by decide +kernel
theorem dksX5_best_1 : cX5_best.data.toList.drop 24 = dktX5_best_1 := dk_seg dksX5_best_0 24 rfl rfl
theorem dksX5_best_2 : cX5_best.data.toList.drop 46 = dktX5_best_2 := dk_seg dksX5_best_1 22 rfl rfl
theorem dksX5_best_3 : cX5_best.data.toList.drop 70 = dktX5_best_3 := dk_seg dksX5_best_2 24 rfl rfl
theorem dksX5_best_4 : cX5_best.data.toList.drop 93 = dktX5_best_4 := dk_seg dksX5_best_3 23 rfl rfl
theorem dksX5_best_5 : cX5_best.data.toList.drop 116 = dktX5_best_5 := dk_seg dksX5_best_4 23 rfl rfl
theorem dksX5_best_6 : cX5_best.data.toList.drop 138 = dktX5_best_6 := dk_seg dksX5_best_5 22 rfl rfl
theorem dksX5_best_7 : cX5_best.data.toList.drop 161 = dktX5_best_7 := dk_seg dksX5_best_6 23 rfl rfl
theorem dX5_best_0 : decode cX5_best 0 = .ok (.aload_n 0, 1) := dk_42 (dk_at dksX5_best_0 0 rfl rfl)
theorem dX5_best_1 : decode cX5_best 1 = .ok (.iconst 0, 1) := dk_3 (dk_at dksX5_best_0 1 rfl rfl)
theorem dX5_best_2 : decode cX5_best 2 = .ok (.putfield 1, 3) := dk_181 0 1 (dk_at dksX5_best_0 2 rfl rfl)
theorem dX5_best_5 : decode cX5_best 5 = .ok (.aload_n 0, 1) := dk_42 (dk_at dksX5_best_0 5 rfl rfl)
theorem dX5_best_6 : decode cX5_best 6 = .ok (.iload_n 1, 1) := dk_27 (dk_at dksX5_best_0 6 rfl rfl)
theorem dX5_best_7 : decode cX5_best 7 = .ok (.invokevirtual 270, 3) := dk_182 1 14 (dk_at dksX5_best_0 7 rfl rfl)
theorem dX5_best_10 : decode cX5_best 10 = .ok (.ifCond .eq 14, 3) := dk_153 0 14 (dk_at dksX5_best_0 10 rfl rfl)
theorem dX5_best_13 : decode cX5_best 13 = .ok (.iload_n 2, 1) := dk_28 (dk_at dksX5_best_0 13 rfl rfl)
theorem dX5_best_14 : decode cX5_best 14 = .ok (.iconst 0, 1) := dk_3 (dk_at dksX5_best_0 14 rfl rfl)
theorem dX5_best_15 : decode cX5_best 15 = .ok (.sipush 999, 3) := dk_17 3 231 (dk_at dksX5_best_0 15 rfl rfl)
theorem dX5_best_18 : decode cX5_best 18 = .ok (.invokestatic 171, 3) := dk_184 0 171 (dk_at dksX5_best_0 18 rfl rfl)
theorem dX5_best_21 : decode cX5_best 21 = .ok (.ifCond .ne 5, 3) := dk_154 0 5 (dk_at dksX5_best_0 21 rfl rfl)
theorem dX5_best_24 : decode cX5_best 24 = .ok (.iconst (-1), 1) := dk_2 (dk_at dksX5_best_1 0 rfl rfl)
theorem dX5_best_25 : decode cX5_best 25 = .ok (.ireturn, 1) := dk_172 (dk_at dksX5_best_1 1 rfl rfl)
theorem dX5_best_26 : decode cX5_best 26 = .ok (.aload_n 0, 1) := dk_42 (dk_at dksX5_best_1 2 rfl rfl)
theorem dX5_best_27 : decode cX5_best 27 = .ok (.iload_n 1, 1) := dk_27 (dk_at dksX5_best_1 3 rfl rfl)
theorem dX5_best_28 : decode cX5_best 28 = .ok (.invokevirtual 253, 3) := dk_182 0 253 (dk_at dksX5_best_1 4 rfl rfl)
theorem dX5_best_31 : decode cX5_best 31 = .ok (.istore_n 3, 1) := dk_62 (dk_at dksX5_best_1 7 rfl rfl)
theorem dX5_best_32 : decode cX5_best 32 = .ok (.iload_n 3, 1) := dk_29 (dk_at dksX5_best_1 8 rfl rfl)
theorem dX5_best_33 : decode cX5_best 33 = .ok (.istore 4, 2) := dk_54 4 (dk_at dksX5_best_1 9 rfl rfl)
theorem dX5_best_35 : decode cX5_best 35 = .ok (.iconst 0, 1) := dk_3 (dk_at dksX5_best_1 11 rfl rfl)
theorem dX5_best_36 : decode cX5_best 36 = .ok (.istore 5, 2) := dk_54 5 (dk_at dksX5_best_1 12 rfl rfl)
theorem dX5_best_38 : decode cX5_best 38 = .ok (.iload 5, 2) := dk_21 5 (dk_at dksX5_best_1 14 rfl rfl)
theorem dX5_best_40 : decode cX5_best 40 = .ok (.aload_n 0, 1) := dk_42 (dk_at dksX5_best_1 16 rfl rfl)
theorem dX5_best_41 : decode cX5_best 41 = .ok (.getfield 33, 3) := dk_180 0 33 (dk_at dksX5_best_1 17 rfl rfl)
theorem dX5_best_44 : decode cX5_best 44 = .ok (.iconst 2, 1) := dk_5 (dk_at dksX5_best_1 20 rfl rfl)
theorem dX5_best_45 : decode cX5_best 45 = .ok (.iaload, 1) := dk_46 (dk_at dksX5_best_1 21 rfl rfl)
theorem dX5_best_46 : decode cX5_best 46 = .ok (.if_icmp .ge 34, 3) := dk_162 0 34 (dk_at dksX5_best_2 0 rfl rfl)
theorem dX5_best_49 : decode cX5_best 49 = .ok (.aload_n 0, 1) := dk_42 (dk_at dksX5_best_2 3 rfl rfl)
theorem dX5_best_50 : decode cX5_best 50 = .ok (.getfield 33, 3) := dk_180 0 33 (dk_at dksX5_best_2 4 rfl rfl)
theorem dX5_best_53 : decode cX5_best 53 = .ok (.bipush 22, 2) := dk_16 22 (dk_at dksX5_best_2 7 rfl rfl)
theorem dX5_best_55 : decode cX5_best 55 = .ok (.iload 5, 2) := dk_21 5 (dk_at dksX5_best_2 9 rfl rfl)
theorem dX5_best_57 : decode cX5_best 57 = .ok (.iadd, 1) := dk_96 (dk_at dksX5_best_2 11 rfl rfl)
theorem dX5_best_58 : decode cX5_best 58 = .ok (.iaload, 1) := dk_46 (dk_at dksX5_best_2 12 rfl rfl)
theorem dX5_best_59 : decode cX5_best 59 = .ok (.iload_n 1, 1) := dk_27 (dk_at dksX5_best_2 13 rfl rfl)
theorem dX5_best_60 : decode cX5_best 60 = .ok (.if_icmp .eq 14, 3) := dk_159 0 14 (dk_at dksX5_best_2 14 rfl rfl)
theorem dX5_best_63 : decode cX5_best 63 = .ok (.iload 4, 2) := dk_21 4 (dk_at dksX5_best_2 17 rfl rfl)
theorem dX5_best_65 : decode cX5_best 65 = .ok (.iconst 1, 1) := dk_4 (dk_at dksX5_best_2 19 rfl rfl)
theorem dX5_best_66 : decode cX5_best 66 = .ok (.iload 5, 2) := dk_21 5 (dk_at dksX5_best_2 20 rfl rfl)
theorem dX5_best_68 : decode cX5_best 68 = .ok (.ishl, 1) := dk_120 (dk_at dksX5_best_2 22 rfl rfl)
theorem dX5_best_69 : decode cX5_best 69 = .ok (.iconst (-1), 1) := dk_2 (dk_at dksX5_best_2 23 rfl rfl)
theorem dX5_best_70 : decode cX5_best 70 = .ok (.ixor, 1) := dk_130 (dk_at dksX5_best_3 0 rfl rfl)
theorem dX5_best_71 : decode cX5_best 71 = .ok (.iand, 1) := dk_126 (dk_at dksX5_best_3 1 rfl rfl)
theorem dX5_best_72 : decode cX5_best 72 = .ok (.istore 4, 2) := dk_54 4 (dk_at dksX5_best_3 2 rfl rfl)
theorem dX5_best_74 : decode cX5_best 74 = .ok (.iinc 5 1, 3) := dk_132 5 1 (dk_at dksX5_best_3 4 rfl rfl)
theorem dX5_best_77 : decode cX5_best 77 = .ok (.goto (-39), 3) := dk_167 255 217 (dk_at dksX5_best_3 7 rfl rfl)
theorem dX5_best_80 : decode cX5_best 80 = .ok (.iconst (-1), 1) := dk_2 (dk_at dksX5_best_3 10 rfl rfl)
theorem dX5_best_81 : decode cX5_best 81 = .ok (.istore 5, 2) := dk_54 5 (dk_at dksX5_best_3 11 rfl rfl)
theorem dX5_best_83 : decode cX5_best 83 = .ok (.iconst 0, 1) := dk_3 (dk_at dksX5_best_3 13 rfl rfl)
theorem dX5_best_84 : decode cX5_best 84 = .ok (.istore 6, 2) := dk_54 6 (dk_at dksX5_best_3 14 rfl rfl)
theorem dX5_best_86 : decode cX5_best 86 = .ok (.iload 6, 2) := dk_21 6 (dk_at dksX5_best_3 16 rfl rfl)
theorem dX5_best_88 : decode cX5_best 88 = .ok (.iload 4, 2) := dk_21 4 (dk_at dksX5_best_3 18 rfl rfl)
theorem dX5_best_90 : decode cX5_best 90 = .ok (.if_icmp .gt 90, 3) := dk_163 0 90 (dk_at dksX5_best_3 20 rfl rfl)
theorem dX5_best_93 : decode cX5_best 93 = .ok (.iload 6, 2) := dk_21 6 (dk_at dksX5_best_4 0 rfl rfl)
theorem dX5_best_95 : decode cX5_best 95 = .ok (.iload 4, 2) := dk_21 4 (dk_at dksX5_best_4 2 rfl rfl)
theorem dX5_best_97 : decode cX5_best 97 = .ok (.iconst (-1), 1) := dk_2 (dk_at dksX5_best_4 4 rfl rfl)
theorem dX5_best_98 : decode cX5_best 98 = .ok (.ixor, 1) := dk_130 (dk_at dksX5_best_4 5 rfl rfl)
theorem dX5_best_99 : decode cX5_best 99 = .ok (.iand, 1) := dk_126 (dk_at dksX5_best_4 6 rfl rfl)
theorem dX5_best_100 : decode cX5_best 100 = .ok (.ifCond .eq 6, 3) := dk_153 0 6 (dk_at dksX5_best_4 7 rfl rfl)
theorem dX5_best_103 : decode cX5_best 103 = .ok (.goto 71, 3) := dk_167 0 71 (dk_at dksX5_best_4 10 rfl rfl)
theorem dX5_best_106 : decode cX5_best 106 = .ok (.aload_n 0, 1) := dk_42 (dk_at dksX5_best_4 13 rfl rfl)
theorem dX5_best_107 : decode cX5_best 107 = .ok (.iload_n 1, 1) := dk_27 (dk_at dksX5_best_4 14 rfl rfl)
theorem dX5_best_108 : decode cX5_best 108 = .ok (.aload_n 0, 1) := dk_42 (dk_at dksX5_best_4 15 rfl rfl)
theorem dX5_best_109 : decode cX5_best 109 = .ok (.getfield 33, 3) := dk_180 0 33 (dk_at dksX5_best_4 16 rfl rfl)
theorem dX5_best_112 : decode cX5_best 112 = .ok (.bipush 62, 2) := dk_16 62 (dk_at dksX5_best_4 19 rfl rfl)
theorem dX5_best_114 : decode cX5_best 114 = .ok (.iaload, 1) := dk_46 (dk_at dksX5_best_4 21 rfl rfl)
theorem dX5_best_115 : decode cX5_best 115 = .ok (.iload_n 3, 1) := dk_29 (dk_at dksX5_best_4 22 rfl rfl)
theorem dX5_best_116 : decode cX5_best 116 = .ok (.iload 6, 2) := dk_21 6 (dk_at dksX5_best_5 0 rfl rfl)
theorem dX5_best_118 : decode cX5_best 118 = .ok (.iconst (-1), 1) := dk_2 (dk_at dksX5_best_5 2 rfl rfl)
theorem dX5_best_119 : decode cX5_best 119 = .ok (.ixor, 1) := dk_130 (dk_at dksX5_best_5 3 rfl rfl)
theorem dX5_best_120 : decode cX5_best 120 = .ok (.iand, 1) := dk_126 (dk_at dksX5_best_5 4 rfl rfl)
theorem dX5_best_121 : decode cX5_best 121 = .ok (.invokevirtual 256, 3) := dk_182 1 0 (dk_at dksX5_best_5 5 rfl rfl)
theorem dX5_best_124 : decode cX5_best 124 = .ok (.istore 7, 2) := dk_54 7 (dk_at dksX5_best_5 8 rfl rfl)
theorem dX5_best_126 : decode cX5_best 126 = .ok (.iload 7, 2) := dk_21 7 (dk_at dksX5_best_5 10 rfl rfl)
theorem dX5_best_128 : decode cX5_best 128 = .ok (.iload 7, 2) := dk_21 7 (dk_at dksX5_best_5 12 rfl rfl)
theorem dX5_best_130 : decode cX5_best 130 = .ok (.imul, 1) := dk_104 (dk_at dksX5_best_5 14 rfl rfl)
theorem dX5_best_131 : decode cX5_best 131 = .ok (.iload_n 2, 1) := dk_28 (dk_at dksX5_best_5 15 rfl rfl)
theorem dX5_best_132 : decode cX5_best 132 = .ok (.if_icmp .gt 42, 3) := dk_163 0 42 (dk_at dksX5_best_5 16 rfl rfl)
theorem dX5_best_135 : decode cX5_best 135 = .ok (.aload_n 0, 1) := dk_42 (dk_at dksX5_best_5 19 rfl rfl)
theorem dX5_best_136 : decode cX5_best 136 = .ok (.iload 6, 2) := dk_21 6 (dk_at dksX5_best_5 20 rfl rfl)
theorem dX5_best_138 : decode cX5_best 138 = .ok (.invokestatic 323, 3) := dk_184 1 67 (dk_at dksX5_best_6 0 rfl rfl)
theorem dX5_best_141 : decode cX5_best 141 = .ok (.invokevirtual 326, 3) := dk_182 1 70 (dk_at dksX5_best_6 3 rfl rfl)
theorem dX5_best_144 : decode cX5_best 144 = .ok (.iload 5, 2) := dk_21 5 (dk_at dksX5_best_6 6 rfl rfl)
theorem dX5_best_146 : decode cX5_best 146 = .ok (.if_icmp .gt 6, 3) := dk_163 0 6 (dk_at dksX5_best_6 8 rfl rfl)
theorem dX5_best_149 : decode cX5_best 149 = .ok (.goto 25, 3) := dk_167 0 25 (dk_at dksX5_best_6 11 rfl rfl)
theorem dX5_best_152 : decode cX5_best 152 = .ok (.aload_n 0, 1) := dk_42 (dk_at dksX5_best_6 14 rfl rfl)
theorem dX5_best_153 : decode cX5_best 153 = .ok (.iload 6, 2) := dk_21 6 (dk_at dksX5_best_6 15 rfl rfl)
theorem dX5_best_155 : decode cX5_best 155 = .ok (.invokestatic 323, 3) := dk_184 1 67 (dk_at dksX5_best_6 17 rfl rfl)
theorem dX5_best_158 : decode cX5_best 158 = .ok (.invokevirtual 326, 3) := dk_182 1 70 (dk_at dksX5_best_6 20 rfl rfl)
theorem dX5_best_161 : decode cX5_best 161 = .ok (.istore 5, 2) := dk_54 5 (dk_at dksX5_best_7 0 rfl rfl)
theorem dX5_best_163 : decode cX5_best 163 = .ok (.aload_n 0, 1) := dk_42 (dk_at dksX5_best_7 2 rfl rfl)
theorem dX5_best_164 : decode cX5_best 164 = .ok (.iload 6, 2) := dk_21 6 (dk_at dksX5_best_7 3 rfl rfl)
theorem dX5_best_166 : decode cX5_best 166 = .ok (.putfield 329, 3) := dk_181 1 73 (dk_at dksX5_best_7 5 rfl rfl)
theorem dX5_best_169 : decode cX5_best 169 = .ok (.aload_n 0, 1) := dk_42 (dk_at dksX5_best_7 8 rfl rfl)
theorem dX5_best_170 : decode cX5_best 170 = .ok (.iconst 1, 1) := dk_4 (dk_at dksX5_best_7 9 rfl rfl)
theorem dX5_best_171 : decode cX5_best 171 = .ok (.putfield 332, 3) := dk_181 1 76 (dk_at dksX5_best_7 10 rfl rfl)
theorem dX5_best_174 : decode cX5_best 174 = .ok (.iinc 6 1, 3) := dk_132 6 1 (dk_at dksX5_best_7 13 rfl rfl)
theorem dX5_best_177 : decode cX5_best 177 = .ok (.goto (-91), 3) := dk_167 255 165 (dk_at dksX5_best_7 16 rfl rfl)
theorem dX5_best_180 : decode cX5_best 180 = .ok (.iload 5, 2) := dk_21 5 (dk_at dksX5_best_7 19 rfl rfl)
theorem dX5_best_182 : decode cX5_best 182 = .ok (.ireturn, 1) := dk_172 (dk_at dksX5_best_7 21 rfl rfl)
theorem se_HeldCoatsModel_isMan__I_Z_HeldCoatsModel : ∀ c ∈ ([5] : List Nat), ∃ q : vw_C, cz_cl[c]? = some q ∧ Cond.selects q.1 (⟨"HeldCoatsModel", "isMan", "(I)Z"⟩ : MethodName) (⟨"HeldCoatsModel", "isMan", "(I)Z"⟩ : MethodName) ∈ lw_all := List.forall_mem_cons.mpr ⟨⟨_, cz_cl5, qs69⟩, fun _ h => absurd h List.not_mem_nil⟩
theorem md_X5_isMan : cz_md yX5_isMan 2 (ws_ yX5_isMan cX5_isMan 2 ((Option.some Jvm.ClassFile.FieldType.boolean))) 1 := ⟨cz_ws_code q2191, q123, ⟨by decide, by decide, by decide +kernel⟩, by decide⟩
theorem md_X5_bits : cz_md yX5_bits 3 (ws_ yX5_bits cX5_bits 3 ((Option.some Jvm.ClassFile.FieldType.int))) 1 := ⟨cz_ws_code q2313, q123, ⟨by decide, by decide, by decide +kernel⟩, by decide⟩
theorem se_HeldCoatsModel_worthOf__I_I_HeldCoatsModel : ∀ c ∈ ([5] : List Nat), ∃ q : vw_C, cz_cl[c]? = some q ∧ Cond.selects q.1 (⟨"HeldCoatsModel", "worthOf", "(I)I"⟩ : MethodName) (⟨"HeldCoatsModel", "worthOf", "(I)I"⟩ : MethodName) ∈ lw_all := List.forall_mem_cons.mpr ⟨⟨_, cz_cl5, qs90⟩, fun _ h => absurd h List.not_mem_nil⟩
theorem md_X5_worthOf : cz_md yX5_worthOf 7 (ws_ yX5_worthOf cX5_worthOf 7 ((Option.some Jvm.ClassFile.FieldType.int))) 1 := ⟨cz_ws_code q2317, q123, ⟨by decide, by decide, by decide +kernel⟩, by decide⟩
theorem fw_X5_329 : cz_FW "HeldCoatsModel" 329 [(5, 24)] "I" := ⟨"HeldCoatsModel", "laidSet", Or.inl q1942, List.forall_mem_cons.mpr ⟨⟨RX5, TX5, 49, rfl, by decide, rfl, rfl, Or.inl rfl⟩, fun _ h => absurd h List.not_mem_nil⟩, by decide⟩
theorem fp_X5_m_5_24 {nm : String} : cz_FP "HeldCoatsModel" nm [(5, 24)] := List.forall_mem_cons.mpr ⟨⟨RX5, TX5, 49, rfl, Or.inl rfl⟩, fun _ h => absurd h List.not_mem_nil⟩
theorem fw_X5_332 : cz_FW "HeldCoatsModel" 332 [(5, 25)] "Z" := ⟨"HeldCoatsModel", "hasLaid", Or.inl q1943, List.forall_mem_cons.mpr ⟨⟨RX5, TX5, 49, rfl, by decide, rfl, rfl, Or.inl rfl⟩, fun _ h => absurd h List.not_mem_nil⟩, by decide⟩
theorem fp_X5_m_5_25 {nm : String} : cz_FP "HeldCoatsModel" nm [(5, 25)] := List.forall_mem_cons.mpr ⟨⟨RX5, TX5, 49, rfl, Or.inl rfl⟩, fun _ h => absurd h List.not_mem_nil⟩
theorem pd_Z : parseFieldDescriptor "Z" = some .boolean := by decide +kernel
theorem kS_999 : (Int16.ofInt (999)).toInt32 = 999 := by decide
set_option maxHeartbeats 4000000 in
set_option maxRecDepth 100000 in
noncomputable def fn_X5_best_38 (l0 : Option Nat) (l1 : Int32) (k0 : Int32 → cz_H → cz_Z) : Nat → Int32 → Int32 → cz_H → cz_Z
  | 0, _, _, _ => none
  | n + 1, l4, l5, h => cz_getR h l0 [(5, 6)] (fun r20 => cz_iald h r20 2 (fun x21 => (if x21 ≤ l5 then k0 l4 h else cz_getR h l0 [(5, 6)] (fun r22 => cz_iald h r22 ((22 : Int32) + l5) (fun x23 => (if x23 = l1 then cz_leti (l5 + 1) (fun x24 => fn_X5_best_38 l0 l1 k0 n l4 x24 h) else cz_leti (l4 &&& (((1 : Int32) <<< (l5 &&& 31)) ^^^ (-1))) (fun x25 => cz_leti (l5 + 1) (fun x26 => fn_X5_best_38 l0 l1 k0 n x25 x26 h))))))))
set_option maxHeartbeats 4000000 in
set_option maxRecDepth 100000 in
theorem wk_X5_best_38 {K : cz_K} {D : cz_D} {h0 : cz_H} {oh : cz_O × cz_H} {l0 : Option Nat} {l1 : Int32} {l2 : Int32} {l3 : Int32} {k0 : Int32 → cz_H → cz_Z} (S : cz_S K D h0 cX5_best 8 "HeldCoatsModel" ((Option.some Jvm.ClassFile.FieldType.int)) "best" ([])) (hk0 : ∀ (e4 : Int32) (h : cz_H), cz_T K D 5 h0 oh 8 (k0 e4 h) h 80 [(0, cz_r l0), (1, cz_i l1), (2, cz_i l2), (3, cz_i l3), (4, cz_i e4)] []) : ∀ (n : Nat) (l4 : Int32) (l5 : Int32) (h : cz_H), cz_T K D 5 h0 oh 8 (fn_X5_best_38 l0 l1 k0 n l4 l5 h) h 38 [(0, cz_r l0), (1, cz_i l1), (2, cz_i l2), (3, cz_i l3), (4, cz_i l4), (5, cz_i l5)] [] := by
  intro n
  induction n with
  | zero => intros; exact ct_none
  | succ n ih =>
    intro l4 l5 h
    rw [fn_X5_best_38]
    refine ct_iload (k := 5) S dX5_best_38 rfl ?_
    refine ct_aload_n (k := 0) S dX5_best_40 rfl rfl ?_
    refine ct_getR S fw_X5_33 dX5_best_41 (fun r20 => ?_)
    refine ct_iconst (v := 2) S dX5_best_44 kI_2 ?_
    refine ct_iald S dX5_best_45 (fun x21 => ?_)
    refine ct_icmp_ge (tgt := 80) S dX5_best_46 (by decide) ?_ ?_
    · exact ct_sub [0, 1, 2, 3, 4] rfl (hk0 l4 h)
    · refine ct_aload_n (k := 0) S dX5_best_49 rfl rfl ?_
      refine ct_getR S fw_X5_33 dX5_best_50 (fun r22 => ?_)
      refine ct_bipush (v := 22) S dX5_best_53 kB_22 ?_
      refine ct_iload (k := 5) S dX5_best_55 rfl ?_
      refine ct_iadd S dX5_best_57 ?_
      refine ct_iald S dX5_best_58 (fun x23 => ?_)
      refine ct_iload_n (k := 1) S dX5_best_59 rfl rfl ?_
      refine ct_icmp_eq (tgt := 74) S dX5_best_60 (by decide) ?_ ?_
      · refine ct_iincL (j := 5) (L2 := fun x24 => [(5, cz_i x24), (0, cz_r l0), (1, cz_i l1), (2, cz_i l2), (3, cz_i l3), (4, cz_i l4)]) S dX5_best_74 rfl kI_1 (by decide) (fun _ => rfl) (fun x24 => ?_)
        refine ct_goto (tgt := 38) S dX5_best_77 (by decide) ?_
        exact ct_sub [1, 2, 3, 4, 5, 0] rfl (ih l4 x24 h)
      · refine ct_iload (k := 4) S dX5_best_63 rfl ?_
        refine ct_iconst (v := 1) S dX5_best_65 kI_1 ?_
        refine ct_iload (k := 5) S dX5_best_66 rfl ?_
        refine ct_ishl S dX5_best_68 ?_
        refine ct_iconst (v := (-1)) S dX5_best_69 kI_m1 ?_
        refine ct_ixor S dX5_best_70 ?_
        refine ct_iand S dX5_best_71 ?_
        refine ct_leti (fun x25 => ?_)
        refine ct_istore (L' := [(4, cz_i x25), (0, cz_r l0), (1, cz_i l1), (2, cz_i l2), (3, cz_i l3), (5, cz_i l5)]) S dX5_best_72 (by decide) rfl ?_
        refine ct_iincL (j := 5) (L2 := fun x26 => [(5, cz_i x26), (4, cz_i x25), (0, cz_r l0), (1, cz_i l1), (2, cz_i l2), (3, cz_i l3)]) S dX5_best_74 rfl kI_1 (by decide) (fun _ => rfl) (fun x26 => ?_)
        refine ct_goto (tgt := 38) S dX5_best_77 (by decide) ?_
        exact ct_sub [2, 3, 4, 5, 1, 0] rfl (ih x25 x26 h)
set_option maxHeartbeats 4000000 in
set_option maxRecDepth 100000 in
noncomputable def fn_X5_best_86 (l0 : Option Nat) (l1 : Int32) (l2 : Int32) (l3 : Int32) (l4 : Int32) (k0 : Int32 → cz_H → cz_Z) : Nat → Int32 → Int32 → cz_H → cz_Z
  | 0, _, _, _ => none
  | n + 1, l5, l6, h => (if l4 < l6 then k0 l5 h else (if (l6 &&& (l4 ^^^ (-1))) = 0 then cz_getR h l0 [(5, 6)] (fun r29 => cz_iald h r29 62 (fun x30 => cz_rc h l0 [5] (cz_cI (fn_X5_chillIn l0 l1 x30 (l3 &&& (l6 ^^^ (-1))) h) (fun x38 h37 => (if l2 < (x38 * x38) then cz_leti (l6 + 1) (fun x39 => fn_X5_best_86 l0 l1 l2 l3 l4 k0 n l5 x39 h37) else cz_cI (fn_X5_bits l6 h37) (fun x41 h40 => cz_rc h40 l0 [5] (cz_cI (fn_X5_worthOf l0 x41 h40) (fun x49 h48 => (if l5 < x49 then cz_cI (fn_X5_bits l6 h48) (fun x51 h50 => cz_rc h50 l0 [5] (cz_cI (fn_X5_worthOf l0 x51 h50) (fun x59 h58 => cz_put h58 l0 [(5, 24)] (cz_i l6) (fun h60 => cz_put h60 l0 [(5, 25)] (cz_i 1) (fun h61 => cz_leti (l6 + 1) (fun x62 => fn_X5_best_86 l0 l1 l2 l3 l4 k0 n x59 x62 h61)))))) else cz_leti (l6 + 1) (fun x63 => fn_X5_best_86 l0 l1 l2 l3 l4 k0 n l5 x63 h48)))))))))) else cz_leti (l6 + 1) (fun x64 => fn_X5_best_86 l0 l1 l2 l3 l4 k0 n l5 x64 h)))
set_option maxHeartbeats 4000000 in
set_option maxRecDepth 100000 in
theorem wk_X5_best_86 {K : cz_K} {D : cz_D} {h0 : cz_H} {oh : cz_O × cz_H} {l0 : Option Nat} {l1 : Int32} {l2 : Int32} {l3 : Int32} {l4 : Int32} {k0 : Int32 → cz_H → cz_Z} (S : cz_S K D h0 cX5_best 8 "HeldCoatsModel" ((Option.some Jvm.ClassFile.FieldType.int)) "best" ([])) (hk0 : ∀ (e5 : Int32) (h : cz_H), cz_T K D 5 h0 oh 8 (k0 e5 h) h 180 [(5, cz_i e5)] []) : ∀ (n : Nat) (l5 : Int32) (l6 : Int32) (h : cz_H), cz_T K D 5 h0 oh 8 (fn_X5_best_86 l0 l1 l2 l3 l4 k0 n l5 l6 h) h 86 [(0, cz_r l0), (1, cz_i l1), (2, cz_i l2), (3, cz_i l3), (4, cz_i l4), (5, cz_i l5), (6, cz_i l6)] [] := by
  intro n
  induction n with
  | zero => intros; exact ct_none
  | succ n ih =>
    intro l5 l6 h
    rw [fn_X5_best_86]
    refine ct_iload (k := 6) S dX5_best_86 rfl ?_
    refine ct_iload (k := 4) S dX5_best_88 rfl ?_
    refine ct_icmp_gt (tgt := 180) S dX5_best_90 (by decide) ?_ ?_
    · exact ct_sub [5] rfl (hk0 l5 h)
    · refine ct_iload (k := 6) S dX5_best_93 rfl ?_
      refine ct_iload (k := 4) S dX5_best_95 rfl ?_
      refine ct_iconst (v := (-1)) S dX5_best_97 kI_m1 ?_
      refine ct_ixor S dX5_best_98 ?_
      refine ct_iand S dX5_best_99 ?_
      refine ct_if_eq (tgt := 106) S dX5_best_100 (by decide) ?_ ?_
      · refine ct_aload_n (k := 0) S dX5_best_106 rfl rfl ?_
        refine ct_iload_n (k := 1) S dX5_best_107 rfl rfl ?_
        refine ct_aload_n (k := 0) S dX5_best_108 rfl rfl ?_
        refine ct_getR S fw_X5_33 dX5_best_109 (fun r29 => ?_)
        refine ct_bipush (v := 62) S dX5_best_112 kB_62 ?_
        refine ct_iald S dX5_best_114 (fun x30 => ?_)
        refine ct_iload_n (k := 3) S dX5_best_115 rfl rfl ?_
        refine ct_iload (k := 6) S dX5_best_116 rfl ?_
        refine ct_iconst (v := (-1)) S dX5_best_118 kI_m1 ?_
        refine ct_ixor S dX5_best_119 ?_
        refine ct_iand S dX5_best_120 ?_
        refine ct_rc (fun b31 ci32 V33 hb34 hc35 hi36 => ?_)
        refine ct_cI (st := []) (cg_virtual (av := [cz_i l1, cz_i x30, cz_i (l3 &&& (l6 ^^^ (-1)))]) S hb34 hc35 hi36 (fun _ e => mt_X5_chillIn e) md_X5_chillIn q2204 q2206 se_HeldCoatsModel_chillIn__III_I_HeldCoatsModel (by decide) (Nat.le_of_ble_eq_true rfl) rfl dX5_best_121) (fun x38 h37 => ?_)
        refine ct_istore (L' := [(7, cz_i x38), (0, cz_r l0), (1, cz_i l1), (2, cz_i l2), (3, cz_i l3), (4, cz_i l4), (5, cz_i l5), (6, cz_i l6)]) S dX5_best_124 (by decide) rfl ?_
        refine ct_iload (k := 0) S dX5_best_126 rfl ?_
        refine ct_iload (k := 0) S dX5_best_128 rfl ?_
        refine ct_imul S dX5_best_130 ?_
        refine ct_iload_n (k := 3) S dX5_best_131 rfl rfl ?_
        refine ct_icmp_gt (tgt := 174) S dX5_best_132 (by decide) ?_ ?_
        · refine ct_iincL (j := 7) (L2 := fun x39 => [(6, cz_i x39), (7, cz_i x38), (0, cz_r l0), (1, cz_i l1), (2, cz_i l2), (3, cz_i l3), (4, cz_i l4), (5, cz_i l5)]) S dX5_best_174 rfl kI_1 (by decide) (fun _ => rfl) (fun x39 => ?_)
          refine ct_goto (tgt := 86) S dX5_best_177 (by decide) ?_
          exact ct_sub [2, 3, 4, 5, 6, 7, 0] rfl (ih l5 x39 h37)
        · refine ct_aload_n (k := 1) S dX5_best_135 rfl rfl ?_
          refine ct_iload (k := 7) S dX5_best_136 rfl ?_
          refine ct_cI (st := [cz_r l0]) (cg_static (av := [cz_i l6]) S (fun _ e => mt_X5_bits e) md_X5_bits (Or.inl q2311) q2312 (by decide) (Nat.le_of_ble_eq_true rfl) rfl dX5_best_138) (fun x41 h40 => ?_)
          refine ct_rc (fun b42 ci43 V44 hb45 hc46 hi47 => ?_)
          refine ct_cI (st := []) (cg_virtual (av := [cz_i x41]) S hb45 hc46 hi47 (fun _ e => mt_X5_worthOf e) md_X5_worthOf q2314 q2316 se_HeldCoatsModel_worthOf__I_I_HeldCoatsModel (by decide) (Nat.le_of_ble_eq_true rfl) rfl dX5_best_141) (fun x49 h48 => ?_)
          refine ct_iload (k := 6) S dX5_best_144 rfl ?_
          refine ct_icmp_gt (tgt := 152) S dX5_best_146 (by decide) ?_ ?_
          · refine ct_aload_n (k := 1) S dX5_best_152 rfl rfl ?_
            refine ct_iload (k := 7) S dX5_best_153 rfl ?_
            refine ct_cI (st := [cz_r l0]) (cg_static (av := [cz_i l6]) S (fun _ e => mt_X5_bits e) md_X5_bits (Or.inl q2311) q2312 (by decide) (Nat.le_of_ble_eq_true rfl) rfl dX5_best_155) (fun x51 h50 => ?_)
            refine ct_rc (fun b52 ci53 V54 hb55 hc56 hi57 => ?_)
            refine ct_cI (st := []) (cg_virtual (av := [cz_i x51]) S hb55 hc56 hi57 (fun _ e => mt_X5_worthOf e) md_X5_worthOf q2314 q2316 se_HeldCoatsModel_worthOf__I_I_HeldCoatsModel (by decide) (Nat.le_of_ble_eq_true rfl) rfl dX5_best_158) (fun x59 h58 => ?_)
            refine ct_istore (L' := [(5, cz_i x59), (7, cz_i x38), (0, cz_r l0), (1, cz_i l1), (2, cz_i l2), (3, cz_i l3), (4, cz_i l4), (6, cz_i l6)]) S dX5_best_161 (by decide) rfl ?_
            refine ct_aload_n (k := 2) S dX5_best_163 rfl rfl ?_
            refine ct_iload (k := 7) S dX5_best_164 rfl ?_
            refine ct_put S fw_X5_329 fp_X5_m_5_24 (cz_fits_i pd_I) dX5_best_166 (fun h60 => ?_)
            refine ct_aload_n (k := 2) S dX5_best_169 rfl rfl ?_
            refine ct_iconst (v := 1) S dX5_best_170 kI_1 ?_
            refine ct_put S fw_X5_332 fp_X5_m_5_25 (cz_fits_z pd_Z (Or.inr rfl)) dX5_best_171 (fun h61 => ?_)
            refine ct_iincL (j := 7) (L2 := fun x62 => [(6, cz_i x62), (5, cz_i x59), (7, cz_i x38), (0, cz_r l0), (1, cz_i l1), (2, cz_i l2), (3, cz_i l3), (4, cz_i l4)]) S dX5_best_174 rfl kI_1 (by decide) (fun _ => rfl) (fun x62 => ?_)
            refine ct_goto (tgt := 86) S dX5_best_177 (by decide) ?_
            exact ct_sub [3, 4, 5, 6, 7, 1, 0] rfl (ih x59 x62 h61)
          · refine ct_goto (tgt := 174) S dX5_best_149 (by decide) ?_
            refine ct_iincL (j := 7) (L2 := fun x63 => [(6, cz_i x63), (7, cz_i x38), (0, cz_r l0), (1, cz_i l1), (2, cz_i l2), (3, cz_i l3), (4, cz_i l4), (5, cz_i l5)]) S dX5_best_174 rfl kI_1 (by decide) (fun _ => rfl) (fun x63 => ?_)
            refine ct_goto (tgt := 86) S dX5_best_177 (by decide) ?_
            exact ct_sub [2, 3, 4, 5, 6, 7, 0] rfl (ih l5 x63 h48)
      · refine ct_goto (tgt := 174) S dX5_best_103 (by decide) ?_
        refine ct_iincL (j := 6) (L2 := fun x64 => [(6, cz_i x64), (0, cz_r l0), (1, cz_i l1), (2, cz_i l2), (3, cz_i l3), (4, cz_i l4), (5, cz_i l5)]) S dX5_best_174 rfl kI_1 (by decide) (fun _ => rfl) (fun x64 => ?_)
        refine ct_goto (tgt := 86) S dX5_best_177 (by decide) ?_
        exact ct_sub [1, 2, 3, 4, 5, 6, 0] rfl (ih l5 x64 h)
set_option maxHeartbeats 4000000 in
set_option maxRecDepth 100000 in
noncomputable def fn_X5_best (l0 : Option Nat) (l1 : Int32) (l2 : Int32) (h : cz_H) : cz_Z := cz_put h l0 [(5, 0)] (cz_i 0) (fun h1 => cz_rc h1 l0 [5] (cz_cI (fn_X5_isMan l0 l1 h1) (fun x9 h8 => (if x9 = 0 then some (.inl (some (cz_i (-1))), h8) else cz_cI (fn_X5_isIn l2 0 999 h8) (fun x11 h10 => (if x11 = 0 then some (.inl (some (cz_i (-1))), h10) else cz_rc h10 l0 [5] (cz_cI (fn_X5_coatsAt l0 l1 h10) (fun x19 h18 => fn_X5_best_38 l0 l1 (fun (e27 : Int32) (h28 : cz_H) => fn_X5_best_86 l0 l1 l2 x19 e27 (fun (e65 : Int32) (h66 : cz_H) => some (.inl (some (cz_i e65)), h66)) 1000 (-1) 0 h28) 1000 x19 0 h18))))))))
set_option maxHeartbeats 4000000 in
set_option maxRecDepth 100000 in
theorem wk_X5_best {K : cz_K} {D : cz_D} {h0 : cz_H} {oh : cz_O × cz_H} {l0 : Option Nat} {l1 : Int32} {l2 : Int32} {h : cz_H} (S : cz_S K D h0 cX5_best 8 "HeldCoatsModel" ((Option.some Jvm.ClassFile.FieldType.int)) "best" ([])) : cz_T K D 5 h0 oh 8 (fn_X5_best l0 l1 l2 h) h 0 [(0, cz_r l0), (1, cz_i l1), (2, cz_i l2)] [] := by
  unfold fn_X5_best
  refine ct_aload_n (k := 0) S dX5_best_0 rfl rfl ?_
  refine ct_iconst (v := 0) S dX5_best_1 kI_0 ?_
  refine ct_put S fw_X5_1 fp_X5_m_5_0 (cz_fits_i pd_I) dX5_best_2 (fun h1 => ?_)
  refine ct_aload_n (k := 0) S dX5_best_5 rfl rfl ?_
  refine ct_iload_n (k := 1) S dX5_best_6 rfl rfl ?_
  refine ct_rc (fun b2 ci3 V4 hb5 hc6 hi7 => ?_)
  refine ct_cI (st := []) (cg_virtual (av := [cz_i l1]) S hb5 hc6 hi7 (fun _ e => mt_X5_isMan e) md_X5_isMan q2188 q2190 se_HeldCoatsModel_isMan__I_Z_HeldCoatsModel (by decide) (Nat.le_of_ble_eq_true rfl) rfl dX5_best_7) (fun x9 h8 => ?_)
  refine ct_if_eq (tgt := 24) S dX5_best_10 (by decide) ?_ ?_
  · refine ct_iconst (v := (-1)) S dX5_best_24 kI_m1 ?_
    exact ct_iret S rfl dX5_best_25
  · refine ct_iload_n (k := 2) S dX5_best_13 rfl rfl ?_
    refine ct_iconst (v := 0) S dX5_best_14 kI_0 ?_
    refine ct_sipush (v := 999) S dX5_best_15 kS_999 ?_
    refine ct_cI (st := []) (cg_static (av := [cz_i l2, cz_i 0, cz_i 999]) S (fun _ e => mt_X5_isIn e) md_X5_isIn (Or.inl q2122) q2123 (by decide) (Nat.le_of_ble_eq_true rfl) rfl dX5_best_18) (fun x11 h10 => ?_)
    refine ct_if_ne (tgt := 26) S dX5_best_21 (by decide) ?_ ?_
    · refine ct_aload_n (k := 0) S dX5_best_26 rfl rfl ?_
      refine ct_iload_n (k := 1) S dX5_best_27 rfl rfl ?_
      refine ct_rc (fun b12 ci13 V14 hb15 hc16 hi17 => ?_)
      refine ct_cI (st := []) (cg_virtual (av := [cz_i l1]) S hb15 hc16 hi17 (fun _ e => mt_X5_coatsAt e) md_X5_coatsAt q2200 q2202 se_HeldCoatsModel_coatsAt__I_I_HeldCoatsModel (by decide) (Nat.le_of_ble_eq_true rfl) rfl dX5_best_28) (fun x19 h18 => ?_)
      refine ct_istore_n (L' := [(3, cz_i x19), (0, cz_r l0), (1, cz_i l1), (2, cz_i l2)]) S dX5_best_31 rfl (by decide) rfl ?_
      refine ct_iload_n (k := 0) S dX5_best_32 rfl rfl ?_
      refine ct_istore (L' := [(4, cz_i x19), (3, cz_i x19), (0, cz_r l0), (1, cz_i l1), (2, cz_i l2)]) S dX5_best_33 (by decide) rfl ?_
      refine ct_iconst (v := 0) S dX5_best_35 kI_0 ?_
      refine ct_istore (L' := [(5, cz_i 0), (4, cz_i x19), (3, cz_i x19), (0, cz_r l0), (1, cz_i l1), (2, cz_i l2)]) S dX5_best_36 (by decide) rfl ?_
      refine ct_sub [3, 4, 5, 2, 1, 0] (L' := [(0, cz_r l0), (1, cz_i l1), (2, cz_i l2), (3, cz_i x19), (4, cz_i x19), (5, cz_i 0)]) rfl (wk_X5_best_38 S ?_ 1000 x19 0 h18)
      · intro e27 h28
        refine ct_iconst (v := (-1)) S dX5_best_80 kI_m1 ?_
        refine ct_istore (L' := [(5, cz_i (-1)), (0, cz_r l0), (1, cz_i l1), (2, cz_i l2), (3, cz_i x19), (4, cz_i e27)]) S dX5_best_81 (by decide) rfl ?_
        refine ct_iconst (v := 0) S dX5_best_83 kI_0 ?_
        refine ct_istore (L' := [(6, cz_i 0), (5, cz_i (-1)), (0, cz_r l0), (1, cz_i l1), (2, cz_i l2), (3, cz_i x19), (4, cz_i e27)]) S dX5_best_84 (by decide) rfl ?_
        refine ct_sub [2, 3, 4, 5, 6, 1, 0] (L' := [(0, cz_r l0), (1, cz_i l1), (2, cz_i l2), (3, cz_i x19), (4, cz_i e27), (5, cz_i (-1)), (6, cz_i 0)]) rfl (wk_X5_best_86 S ?_ 1000 (-1) 0 h28)
        · intro e65 h66
          refine ct_iload (k := 0) S dX5_best_180 rfl ?_
          exact ct_iret S rfl dX5_best_182
    · refine ct_iconst (v := (-1)) S dX5_best_24 kI_m1 ?_
      exact ct_iret S rfl dX5_best_25
theorem mt_X5_best {l : Launch} {D : cz_D} {l0 : Option Nat} {l1 : Int32} {l2 : Int32} {h : cz_H} {oh : cz_O × cz_H} (hz : fn_X5_best l0 l1 l2 h = some oh) : cz_M l D yX5_best (ws_ yX5_best cX5_best 8 ((Option.some Jvm.ClassFile.FieldType.int))) 5 [cz_r l0, cz_i l1, cz_i l2] h oh := cz_met (plainFor_of_name (by decide)) (Nat.le_of_ble_eq_true rfl) hz (fun K hl S => wk_X5_best S)
