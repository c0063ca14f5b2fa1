/-! methods of the class, 6 (printed by wip/D-98934w/gen) -/
set_option maxRecDepth 100000
/-! HeldCoats.price()I -/
theorem dX1_price_0 : decode cX1_price 0 = .ok (.aload_n 0, 1) := by decide +kernel
theorem dX1_price_1 : decode cX1_price 1 = .ok (.getfield 65, 3) := by decide +kernel
theorem dX1_price_4 : decode cX1_price 4 = .ok (.ireturn, 1) := by decide +kernel
set_option maxHeartbeats 4000000 in
set_option maxRecDepth 100000 in
noncomputable def fn_X1_price (l0 : Option Nat) (h : cz_H) : cz_Z := cz_getI h l0 [(0, 15)] (fun x1 => some (.inl (some (cz_i x1)), h))
set_option maxHeartbeats 4000000 in
set_option maxRecDepth 100000 in
theorem wk_X1_price {K : cz_K} {D : cz_D} {h0 : cz_H} {oh : cz_O × cz_H} {l0 : Option Nat} {h : cz_H} (S : cz_S K D h0 cX1_price 1 "HeldCoats" ((Option.some Jvm.ClassFile.FieldType.int)) "price" ([])) : cz_T K D 2 h0 oh 1 (fn_X1_price l0 h) h 0 [(0, cz_r l0)] [] := by
  unfold fn_X1_price
  refine ct_aload_n (k := 0) S dX1_price_0 rfl rfl ?_
  refine ct_getI S fw_X1_65 dX1_price_1 (fun x1 => ?_)
  exact ct_iret S rfl dX1_price_4
theorem mt_X1_price {l : Launch} {D : cz_D} {l0 : Option Nat} {h : cz_H} {oh : cz_O × cz_H} (hz : fn_X1_price l0 h = some oh) : cz_M l D yX1_price (ws_ yX1_price cX1_price 1 ((Option.some Jvm.ClassFile.FieldType.int))) 2 [cz_r l0] h oh := cz_met (plainFor_of_name (by decide)) (Nat.le_of_ble_eq_true rfl) hz (fun K hl S => wk_X1_price S)
/-! HeldCoats.queue(I)I -/
def dkwX1_queue_1 : List UInt8 := [27, 46, 167, 0, 4, 2, 172]
abbrev dktX1_queue_1 : List UInt8 := dkwX1_queue_1 ++ []
def dkwX1_queue_0 : List UInt8 := [27, 3, 42, 180, 0, 42, 180, 0, 229, 4, 100, 184, 0, 162, 153, 0, 15, 42, 180, 0, 42, 180, 1, 44]
abbrev dktX1_queue_0 : List UInt8 := dkwX1_queue_0 ++ dktX1_queue_1
theorem dksX1_queue_0 : cX1_queue.data.toList.drop 0 = dktX1_queue_0 := by decide +kernel
theorem dksX1_queue_1 : cX1_queue.data.toList.drop 24 = dktX1_queue_1 := dk_seg dksX1_queue_0 24 rfl rfl
theorem dX1_queue_0 : decode cX1_queue 0 = .ok (.iload_n 1, 1) := dk_27 (dk_at dksX1_queue_0 0 rfl rfl)
theorem dX1_queue_1 : decode cX1_queue 1 = .ok (.iconst 0, 1) := dk_3 (dk_at dksX1_queue_0 1 rfl rfl)
theorem dX1_queue_2 : decode cX1_queue 2 = .ok (.aload_n 0, 1) := dk_42 (dk_at dksX1_queue_0 2 rfl rfl)
theorem dX1_queue_3 : decode cX1_queue 3 = .ok (.getfield 42, 3) := dk_180 0 42 (dk_at dksX1_queue_0 3 rfl rfl)
theorem dX1_queue_6 : decode cX1_queue 6 = .ok (.getfield 229, 3) := dk_180 0 229 (dk_at dksX1_queue_0 6 rfl rfl)
theorem dX1_queue_9 : decode cX1_queue 9 = .ok (.iconst 1, 1) := dk_4 (dk_at dksX1_queue_0 9 rfl rfl)
theorem dX1_queue_10 : decode cX1_queue 10 = .ok (.isub, 1) := dk_100 (dk_at dksX1_queue_0 10 rfl rfl)
theorem dX1_queue_11 : decode cX1_queue 11 = .ok (.invokestatic 162, 3) := dk_184 0 162 (dk_at dksX1_queue_0 11 rfl rfl)
theorem dX1_queue_14 : decode cX1_queue 14 = .ok (.ifCond .eq 15, 3) := dk_153 0 15 (dk_at dksX1_queue_0 14 rfl rfl)
theorem dX1_queue_17 : decode cX1_queue 17 = .ok (.aload_n 0, 1) := dk_42 (dk_at dksX1_queue_0 17 rfl rfl)
theorem dX1_queue_18 : decode cX1_queue 18 = .ok (.getfield 42, 3) := dk_180 0 42 (dk_at dksX1_queue_0 18 rfl rfl)
theorem dX1_queue_21 : decode cX1_queue 21 = .ok (.getfield 300, 3) := dk_180 1 44 (dk_at dksX1_queue_0 21 rfl rfl)
theorem dX1_queue_24 : decode cX1_queue 24 = .ok (.iload_n 1, 1) := dk_27 (dk_at dksX1_queue_1 0 rfl rfl)
theorem dX1_queue_25 : decode cX1_queue 25 = .ok (.iaload, 1) := dk_46 (dk_at dksX1_queue_1 1 rfl rfl)
theorem dX1_queue_26 : decode cX1_queue 26 = .ok (.goto 4, 3) := dk_167 0 4 (dk_at dksX1_queue_1 2 rfl rfl)
theorem dX1_queue_29 : decode cX1_queue 29 = .ok (.iconst (-1), 1) := dk_2 (dk_at dksX1_queue_1 5 rfl rfl)
theorem dX1_queue_30 : decode cX1_queue 30 = .ok (.ireturn, 1) := dk_172 (dk_at dksX1_queue_1 6 rfl rfl)
set_option maxHeartbeats 4000000 in
set_option maxRecDepth 100000 in
noncomputable def fn_X1_queue (l0 : Option Nat) (l1 : Int32) (h : cz_H) : cz_Z := cz_getR h l0 [(0, 4)] (fun r1 => cz_getI h r1 [(3, 5)] (fun x2 => cz_cI (fn_X1_isIn l1 0 (x2 - 1) h) (fun x4 h3 => (if x4 = 0 then some (.inl (some (cz_i (-1))), h3) else cz_getR h3 l0 [(0, 4)] (fun r5 => cz_getR h3 r5 [(3, 10)] (fun r6 => cz_iald h3 r6 l1 (fun x7 => some (.inl (some (cz_i x7)), h3))))))))
set_option maxHeartbeats 4000000 in
set_option maxRecDepth 100000 in
theorem wk_X1_queue {K : cz_K} {D : cz_D} {h0 : cz_H} {oh : cz_O × cz_H} {l0 : Option Nat} {l1 : Int32} {h : cz_H} (S : cz_S K D h0 cX1_queue 2 "HeldCoats" ((Option.some Jvm.ClassFile.FieldType.int)) "queue" ([])) : cz_T K D 3 h0 oh 2 (fn_X1_queue l0 l1 h) h 0 [(0, cz_r l0), (1, cz_i l1)] [] := by
  unfold fn_X1_queue
  refine ct_iload_n (k := 1) S dX1_queue_0 rfl rfl ?_
  refine ct_iconst (v := 0) S dX1_queue_1 kI_0 ?_
  refine ct_aload_n (k := 0) S dX1_queue_2 rfl rfl ?_
  refine ct_getR S fw_X1_42 dX1_queue_3 (fun r1 => ?_)
  refine ct_getI S fw_X1_229 dX1_queue_6 (fun x2 => ?_)
  refine ct_iconst (v := 1) S dX1_queue_9 kI_1 ?_
  refine ct_isub S dX1_queue_10 ?_
  refine ct_cI (st := []) (cg_static (av := [cz_i l1, cz_i 0, cz_i (x2 - 1)]) S (fun _ e => mt_X1_isIn e) md_X1_isIn (Or.inl q1355) q929 (by decide) (Nat.le_of_ble_eq_true rfl) rfl dX1_queue_11) (fun x4 h3 => ?_)
  refine ct_if_eq (tgt := 29) S dX1_queue_14 (by decide) ?_ ?_
  · refine ct_iconst (v := (-1)) S dX1_queue_29 kI_m1 ?_
    exact ct_iret S rfl dX1_queue_30
  · refine ct_aload_n (k := 0) S dX1_queue_17 rfl rfl ?_
    refine ct_getR S fw_X1_42 dX1_queue_18 (fun r5 => ?_)
    refine ct_getR S fw_X1_300 dX1_queue_21 (fun r6 => ?_)
    refine ct_iload_n (k := 1) S dX1_queue_24 rfl rfl ?_
    refine ct_iald S dX1_queue_25 (fun x7 => ?_)
    refine ct_goto (tgt := 30) S dX1_queue_26 (by decide) ?_
    exact ct_iret S rfl dX1_queue_30
theorem mt_X1_queue {l : Launch} {D : cz_D} {l0 : Option Nat} {l1 : Int32} {h : cz_H} {oh : cz_O × cz_H} (hz : fn_X1_queue l0 l1 h = some oh) : cz_M l D yX1_queue (ws_ yX1_queue cX1_queue 2 ((Option.some Jvm.ClassFile.FieldType.int))) 3 [cz_r l0, cz_i l1] h oh := cz_met (plainFor_of_name (by decide)) (Nat.le_of_ble_eq_true rfl) hz (fun K hl S => wk_X1_queue S)
/-! HeldCoats.restore(I)Z -/
def dkwX1_restore_3 : List UInt8 := [181, 0, 105, 4, 172]
abbrev dktX1_restore_3 : List UInt8 := dkwX1_restore_3 ++ []
def dkwX1_restore_2 : List UInt8 := [181, 0, 101, 42, 180, 0, 42, 42, 180, 0, 74, 27, 50, 180, 1, 108, 182, 0, 232, 87, 42, 3]
abbrev dktX1_restore_2 : List UInt8 := dkwX1_restore_2 ++ dktX1_restore_3
def dkwX1_restore_1 : List UInt8 := [42, 180, 0, 74, 27, 50, 180, 1, 106, 181, 0, 33, 42, 42, 180, 0, 74, 27, 50, 180, 1, 107]
abbrev dktX1_restore_1 : List UInt8 := dkwX1_restore_1 ++ dktX1_restore_2
def dkwX1_restore_0 : List UInt8 := [27, 3, 4, 184, 0, 162, 153, 0, 15, 42, 180, 0, 74, 27, 50, 180, 1, 106, 199, 0, 5, 3, 172, 42]
abbrev dktX1_restore_0 : List UInt8 := dkwX1_restore_0 ++ dktX1_restore_1
theorem dksX1_restore_0 : cX1_restore.data.toList.drop 0 = dktX1_restore_0 := by decide +kernel
theorem dksX1_restore_1 : cX1_restore.data.toList.drop 24 = dktX1_restore_1 := dk_seg dksX1_restore_0 24 rfl rfl
theorem dksX1_restore_2 : cX1_restore.data.toList.drop 46 = dktX1_restore_2 := dk_seg dksX1_restore_1 22 rfl rfl
theorem dksX1_restore_3 : cX1_restore.data.toList.drop 68 = dktX1_restore_3 := dk_seg dksX1_restore_2 22 rfl rfl
theorem dX1_restore_0 : decode cX1_restore 0 = .ok (.iload_n 1, 1) := dk_27 (dk_at dksX1_restore_0 0 rfl rfl)
theorem dX1_restore_1 : decode cX1_restore 1 = .ok (.iconst 0, 1) := dk_3 (dk_at dksX1_restore_0 1 rfl rfl)
theorem dX1_restore_2 : decode cX1_restore 2 = .ok (.iconst 1, 1) := dk_4 (dk_at dksX1_restore_0 2 rfl rfl)
theorem dX1_restore_3 : decode cX1_restore 3 = .ok (.invokestatic 162, 3) := dk_184 0 162 (dk_at dksX1_restore_0 3 rfl rfl)
theorem dX1_restore_6 : decode cX1_restore 6 = .ok (.ifCond .eq 15, 3) := dk_153 0 15 (dk_at dksX1_restore_0 6 rfl rfl)
theorem dX1_restore_9 : decode cX1_restore 9 = .ok (.aload_n 0, 1) := dk_42 (dk_at dksX1_restore_0 9 rfl rfl)
theorem dX1_restore_10 : decode cX1_restore 10 = .ok (.getfield 74, 3) := dk_180 0 74 (dk_at dksX1_restore_0 10 rfl rfl)
theorem dX1_restore_13 : decode cX1_restore 13 = .ok (.iload_n 1, 1) := dk_27 (dk_at dksX1_restore_0 13 rfl rfl)
theorem dX1_restore_14 : decode cX1_restore 14 = .ok (.aaload, 1) := dk_50 (dk_at dksX1_restore_0 14 rfl rfl)
theorem dX1_restore_15 : decode cX1_restore 15 = .ok (.getfield 362, 3) := dk_180 1 106 (dk_at dksX1_restore_0 15 rfl rfl)
theorem dX1_restore_18 : decode cX1_restore 18 = .ok (.ifnonnull 5, 3) := dk_199 0 5 (dk_at dksX1_restore_0 18 rfl rfl)
theorem dX1_restore_21 : decode cX1_restore 21 = .ok (.iconst 0, 1) := dk_3 (dk_at dksX1_restore_0 21 rfl rfl)
theorem dX1_restore_22 : decode cX1_restore 22 = .ok (.ireturn, 1) := dk_172 (dk_at dksX1_restore_0 22 rfl rfl)
theorem dX1_restore_23 : decode cX1_restore 23 = .ok (.aload_n 0, 1) := dk_42 (dk_at dksX1_restore_0 23 rfl rfl)
theorem dX1_restore_24 : decode cX1_restore 24 = .ok (.aload_n 0, 1) := dk_42 (dk_at dksX1_restore_1 0 rfl rfl)
theorem dX1_restore_25 : decode cX1_restore 25 = .ok (.getfield 74, 3) := dk_180 0 74 (dk_at dksX1_restore_1 1 rfl rfl)
theorem dX1_restore_28 : decode cX1_restore 28 = .ok (.iload_n 1, 1) := dk_27 (dk_at dksX1_restore_1 4 rfl rfl)
theorem dX1_restore_29 : decode cX1_restore 29 = .ok (.aaload, 1) := dk_50 (dk_at dksX1_restore_1 5 rfl rfl)
theorem dX1_restore_30 : decode cX1_restore 30 = .ok (.getfield 362, 3) := dk_180 1 106 (dk_at dksX1_restore_1 6 rfl rfl)
theorem dX1_restore_33 : decode cX1_restore 33 = .ok (.putfield 33, 3) := dk_181 0 33 (dk_at dksX1_restore_1 9 rfl rfl)
theorem dX1_restore_36 : decode cX1_restore 36 = .ok (.aload_n 0, 1) := dk_42 (dk_at dksX1_restore_1 12 rfl rfl)
theorem dX1_restore_37 : decode cX1_restore 37 = .ok (.aload_n 0, 1) := dk_42 (dk_at dksX1_restore_1 13 rfl rfl)
theorem dX1_restore_38 : decode cX1_restore 38 = .ok (.getfield 74, 3) := dk_180 0 74 (dk_at dksX1_restore_1 14 rfl rfl)
theorem dX1_restore_41 : decode cX1_restore 41 = .ok (.iload_n 1, 1) := dk_27 (dk_at dksX1_restore_1 17 rfl rfl)
theorem dX1_restore_42 : decode cX1_restore 42 = .ok (.aaload, 1) := dk_50 (dk_at dksX1_restore_1 18 rfl rfl)
theorem dX1_restore_43 : decode cX1_restore 43 = .ok (.getfield 363, 3) := dk_180 1 107 (dk_at dksX1_restore_1 19 rfl rfl)
theorem dX1_restore_46 : decode cX1_restore 46 = .ok (.putfield 101, 3) := dk_181 0 101 (dk_at dksX1_restore_2 0 rfl rfl)
theorem dX1_restore_49 : decode cX1_restore 49 = .ok (.aload_n 0, 1) := dk_42 (dk_at dksX1_restore_2 3 rfl rfl)
theorem dX1_restore_50 : decode cX1_restore 50 = .ok (.getfield 42, 3) := dk_180 0 42 (dk_at dksX1_restore_2 4 rfl rfl)
theorem dX1_restore_53 : decode cX1_restore 53 = .ok (.aload_n 0, 1) := dk_42 (dk_at dksX1_restore_2 7 rfl rfl)
theorem dX1_restore_54 : decode cX1_restore 54 = .ok (.getfield 74, 3) := dk_180 0 74 (dk_at dksX1_restore_2 8 rfl rfl)
theorem dX1_restore_57 : decode cX1_restore 57 = .ok (.iload_n 1, 1) := dk_27 (dk_at dksX1_restore_2 11 rfl rfl)
theorem dX1_restore_58 : decode cX1_restore 58 = .ok (.aaload, 1) := dk_50 (dk_at dksX1_restore_2 12 rfl rfl)
theorem dX1_restore_59 : decode cX1_restore 59 = .ok (.getfield 364, 3) := dk_180 1 108 (dk_at dksX1_restore_2 13 rfl rfl)
theorem dX1_restore_62 : decode cX1_restore 62 = .ok (.invokevirtual 232, 3) := dk_182 0 232 (dk_at dksX1_restore_2 16 rfl rfl)
theorem dX1_restore_65 : decode cX1_restore 65 = .ok (.pop, 1) := dk_87 (dk_at dksX1_restore_2 19 rfl rfl)
theorem dX1_restore_66 : decode cX1_restore 66 = .ok (.aload_n 0, 1) := dk_42 (dk_at dksX1_restore_2 20 rfl rfl)
theorem dX1_restore_67 : decode cX1_restore 67 = .ok (.iconst 0, 1) := dk_3 (dk_at dksX1_restore_2 21 rfl rfl)
theorem dX1_restore_68 : decode cX1_restore 68 = .ok (.putfield 105, 3) := dk_181 0 105 (dk_at dksX1_restore_3 0 rfl rfl)
theorem dX1_restore_71 : decode cX1_restore 71 = .ok (.iconst 1, 1) := dk_4 (dk_at dksX1_restore_3 3 rfl rfl)
theorem dX1_restore_72 : decode cX1_restore 72 = .ok (.ireturn, 1) := dk_172 (dk_at dksX1_restore_3 4 rfl rfl)
set_option maxHeartbeats 4000000 in
set_option maxRecDepth 100000 in
noncomputable def fn_X1_restore (l0 : Option Nat) (l1 : Int32) (h : cz_H) : cz_Z := cz_cI (fn_X1_isIn l1 0 1 h) (fun x2 h1 => (if x2 = 0 then some (.inl (some (cz_i 0)), h1) else cz_getR h1 l0 [(0, 17)] (fun r3 => cz_aald h1 r3 l1 (fun r4 => cz_getR h1 r4 [(4, 0)] (fun r5 => (if r5 = none then some (.inl (some (cz_i 0)), h1) else cz_getR h1 l0 [(0, 17)] (fun r6 => cz_aald h1 r6 l1 (fun r7 => cz_getR h1 r7 [(4, 0)] (fun r8 => cz_put h1 l0 [(0, 3)] (cz_r r8) (fun h9 => cz_getR h9 l0 [(0, 17)] (fun r10 => cz_aald h9 r10 l1 (fun r11 => cz_getR h9 r11 [(4, 1)] (fun r12 => cz_put h9 l0 [(0, 6)] (cz_r r12) (fun h13 => cz_getR h13 l0 [(0, 4)] (fun r14 => cz_getR h13 l0 [(0, 17)] (fun r15 => cz_aald h13 r15 l1 (fun r16 => cz_getR h13 r16 [(4, 2)] (fun r17 => cz_rc h13 r14 [3] (cz_cR (fn_X3_as r14 r17 h13) (fun r25 h24 => cz_put h24 l0 [(0, 8)] (cz_i 0) (fun h26 => some (.inl (some (cz_i 1)), h26))))))))))))))))))))))
set_option maxHeartbeats 4000000 in
set_option maxRecDepth 100000 in
theorem wk_X1_restore {K : cz_K} {D : cz_D} {h0 : cz_H} {oh : cz_O × cz_H} {l0 : Option Nat} {l1 : Int32} {h : cz_H} (S : cz_S K D h0 cX1_restore 2 "HeldCoats" ((Option.some Jvm.ClassFile.FieldType.boolean)) "restore" ([])) : cz_T K D 4 h0 oh 2 (fn_X1_restore l0 l1 h) h 0 [(0, cz_r l0), (1, cz_i l1)] [] := by
  unfold fn_X1_restore
  refine ct_iload_n (k := 1) S dX1_restore_0 rfl rfl ?_
  refine ct_iconst (v := 0) S dX1_restore_1 kI_0 ?_
  refine ct_iconst (v := 1) S dX1_restore_2 kI_1 ?_
  refine ct_cI (st := []) (cg_static (av := [cz_i l1, cz_i 0, cz_i 1]) S (fun _ e => mt_X1_isIn e) md_X1_isIn (Or.inl q1355) q929 (by decide) (Nat.le_of_ble_eq_true rfl) rfl dX1_restore_3) (fun x2 h1 => ?_)
  refine ct_if_eq (tgt := 21) S dX1_restore_6 (by decide) ?_ ?_
  · refine ct_iconst (v := 0) S dX1_restore_21 kI_0 ?_
    exact ct_zr (ty := .boolean) S rfl rfl dX1_restore_22
  · refine ct_aload_n (k := 0) S dX1_restore_9 rfl rfl ?_
    refine ct_getR S fw_X1_74 dX1_restore_10 (fun r3 => ?_)
    refine ct_iload_n (k := 1) S dX1_restore_13 rfl rfl ?_
    refine ct_aald S dX1_restore_14 (fun r4 => ?_)
    refine ct_getR S fw_X1_362 dX1_restore_15 (fun r5 => ?_)
    refine ct_ifnonnull (tgt := 23) S dX1_restore_18 (by decide) ?_ ?_
    · refine ct_aload_n (k := 0) S dX1_restore_23 rfl rfl ?_
      refine ct_aload_n (k := 0) S dX1_restore_24 rfl rfl ?_
      refine ct_getR S fw_X1_74 dX1_restore_25 (fun r6 => ?_)
      refine ct_iload_n (k := 1) S dX1_restore_28 rfl rfl ?_
      refine ct_aald S dX1_restore_29 (fun r7 => ?_)
      refine ct_getR S fw_X1_362 dX1_restore_30 (fun r8 => ?_)
      refine ct_put S fw_X1_33 fp_X1_m_0_3 (cz_fits_r pd_LHeldCoats_Capital_) dX1_restore_33 (fun h9 => ?_)
      refine ct_aload_n (k := 0) S dX1_restore_36 rfl rfl ?_
      refine ct_aload_n (k := 0) S dX1_restore_37 rfl rfl ?_
      refine ct_getR S fw_X1_74 dX1_restore_38 (fun r10 => ?_)
      refine ct_iload_n (k := 1) S dX1_restore_41 rfl rfl ?_
      refine ct_aald S dX1_restore_42 (fun r11 => ?_)
      refine ct_getR S fw_X1_363 dX1_restore_43 (fun r12 => ?_)
      refine ct_put S fw_X1_101 fp_X1_m_0_6 (cz_fits_r pd_LHeldCoats_Cond_) dX1_restore_46 (fun h13 => ?_)
      refine ct_aload_n (k := 0) S dX1_restore_49 rfl rfl ?_
      refine ct_getR S fw_X1_42 dX1_restore_50 (fun r14 => ?_)
      refine ct_aload_n (k := 0) S dX1_restore_53 rfl rfl ?_
      refine ct_getR S fw_X1_74 dX1_restore_54 (fun r15 => ?_)
      refine ct_iload_n (k := 1) S dX1_restore_57 rfl rfl ?_
      refine ct_aald S dX1_restore_58 (fun r16 => ?_)
      refine ct_getR S fw_X1_364 dX1_restore_59 (fun r17 => ?_)
      refine ct_rc (fun b18 ci19 V20 hb21 hc22 hi23 => ?_)
      refine ct_cR (st := []) (cg_virtual (av := [cz_r r17]) S hb21 hc22 hi23 (fun _ e => mt_X3_as e) md_X3_as q1190 q1191 se_HeldCoats_Reign_as__LHeldCoats_Reign__LHeldCoats_Reign__HeldCoats_Reign (by decide) (Nat.le_of_ble_eq_true rfl) rfl dX1_restore_62) (fun r25 h24 => ?_)
      refine ct_pop S dX1_restore_65 rfl ?_
      refine ct_aload_n (k := 0) S dX1_restore_66 rfl rfl ?_
      refine ct_iconst (v := 0) S dX1_restore_67 kI_0 ?_
      refine ct_put S fw_X1_105 fp_X1_m_0_8 (cz_fits_i pd_I) dX1_restore_68 (fun h26 => ?_)
      refine ct_iconst (v := 1) S dX1_restore_71 kI_1 ?_
      exact ct_zr (ty := .boolean) S rfl rfl dX1_restore_72
    · refine ct_iconst (v := 0) S dX1_restore_21 kI_0 ?_
      exact ct_zr (ty := .boolean) S rfl rfl dX1_restore_22
theorem mt_X1_restore {l : Launch} {D : cz_D} {l0 : Option Nat} {l1 : Int32} {h : cz_H} {oh : cz_O × cz_H} (hz : fn_X1_restore l0 l1 h = some oh) : cz_M l D yX1_restore (ws_ yX1_restore cX1_restore 2 ((Option.some Jvm.ClassFile.FieldType.boolean))) 4 [cz_r l0, cz_i l1] h oh := cz_met (plainFor_of_name (by decide)) (Nat.le_of_ble_eq_true rfl) hz (fun K hl S => wk_X1_restore S)
/-! HeldCoats.cold(I)I -/
def dkwX1_cold_2 : List UInt8 := [132, 3, 1, 167, 255, 212, 28, 172]
abbrev dktX1_cold_2 : List UInt8 := dkwX1_cold_2 ++ []
def dkwX1_cold_1 : List UInt8 := [182, 0, 170, 42, 180, 0, 42, 180, 0, 15, 182, 0, 173, 184, 1, 20, 27, 164, 0, 6, 132, 2, 1]
abbrev dktX1_cold_1 : List UInt8 := dkwX1_cold_1 ++ dktX1_cold_2
def dkwX1_cold_0 : List UInt8 := [3, 61, 3, 62, 29, 42, 182, 1, 70, 162, 0, 42, 42, 180, 0, 42, 29, 42, 180, 0, 42, 29]
abbrev dktX1_cold_0 : List UInt8 := dkwX1_cold_0 ++ dktX1_cold_1
theorem dksX1_cold_0 : cX1_cold.data.toList.drop 0 = dktX1_cold_0 := by decide +kernel
theorem dksX1_cold_1 : cX1_cold.data.toList.drop 22 = dktX1_cold_1 := dk_seg dksX1_cold_0 22 rfl rfl
theorem dksX1_cold_2 : cX1_cold.data.toList.drop 45 = dktX1_cold_2 := dk_seg dksX1_cold_1 23 rfl rfl
theorem dX1_cold_0 : decode cX1_cold 0 = .ok (.iconst 0, 1) := dk_3 (dk_at dksX1_cold_0 0 rfl rfl)
theorem dX1_cold_1 : decode cX1_cold 1 = .ok (.istore_n 2, 1) := dk_61 (dk_at dksX1_cold_0 1 rfl rfl)
theorem dX1_cold_2 : decode cX1_cold 2 = .ok (.iconst 0, 1) := dk_3 (dk_at dksX1_cold_0 2 rfl rfl)
theorem dX1_cold_3 : decode cX1_cold 3 = .ok (.istore_n 3, 1) := dk_62 (dk_at dksX1_cold_0 3 rfl rfl)
theorem dX1_cold_4 : decode cX1_cold 4 = .ok (.iload_n 3, 1) := dk_29 (dk_at dksX1_cold_0 4 rfl rfl)
theorem dX1_cold_5 : decode cX1_cold 5 = .ok (.aload_n 0, 1) := dk_42 (dk_at dksX1_cold_0 5 rfl rfl)
theorem dX1_cold_6 : decode cX1_cold 6 = .ok (.invokevirtual 326, 3) := dk_182 1 70 (dk_at dksX1_cold_0 6 rfl rfl)
theorem dX1_cold_9 : decode cX1_cold 9 = .ok (.if_icmp .ge 42, 3) := dk_162 0 42 (dk_at dksX1_cold_0 9 rfl rfl)
theorem dX1_cold_12 : decode cX1_cold 12 = .ok (.aload_n 0, 1) := dk_42 (dk_at dksX1_cold_0 12 rfl rfl)
theorem dX1_cold_13 : decode cX1_cold 13 = .ok (.getfield 42, 3) := dk_180 0 42 (dk_at dksX1_cold_0 13 rfl rfl)
theorem dX1_cold_16 : decode cX1_cold 16 = .ok (.iload_n 3, 1) := dk_29 (dk_at dksX1_cold_0 16 rfl rfl)
theorem dX1_cold_17 : decode cX1_cold 17 = .ok (.aload_n 0, 1) := dk_42 (dk_at dksX1_cold_0 17 rfl rfl)
theorem dX1_cold_18 : decode cX1_cold 18 = .ok (.getfield 42, 3) := dk_180 0 42 (dk_at dksX1_cold_0 18 rfl rfl)
theorem dX1_cold_21 : decode cX1_cold 21 = .ok (.iload_n 3, 1) := dk_29 (dk_at dksX1_cold_0 21 rfl rfl)
theorem dX1_cold_22 : decode cX1_cold 22 = .ok (.invokevirtual 170, 3) := dk_182 0 170 (dk_at dksX1_cold_1 0 rfl rfl)
theorem dX1_cold_25 : decode cX1_cold 25 = .ok (.aload_n 0, 1) := dk_42 (dk_at dksX1_cold_1 3 rfl rfl)
theorem dX1_cold_26 : decode cX1_cold 26 = .ok (.getfield 42, 3) := dk_180 0 42 (dk_at dksX1_cold_1 4 rfl rfl)
theorem dX1_cold_29 : decode cX1_cold 29 = .ok (.getfield 15, 3) := dk_180 0 15 (dk_at dksX1_cold_1 7 rfl rfl)
theorem dX1_cold_32 : decode cX1_cold 32 = .ok (.invokevirtual 173, 3) := dk_182 0 173 (dk_at dksX1_cold_1 10 rfl rfl)
theorem dX1_cold_35 : decode cX1_cold 35 = .ok (.invokestatic 276, 3) := dk_184 1 20 (dk_at dksX1_cold_1 13 rfl rfl)
theorem dX1_cold_38 : decode cX1_cold 38 = .ok (.iload_n 1, 1) := dk_27 (dk_at dksX1_cold_1 16 rfl rfl)
theorem dX1_cold_39 : decode cX1_cold 39 = .ok (.if_icmp .le 6, 3) := dk_164 0 6 (dk_at dksX1_cold_1 17 rfl rfl)
theorem dX1_cold_42 : decode cX1_cold 42 = .ok (.iinc 2 1, 3) := dk_132 2 1 (dk_at dksX1_cold_1 20 rfl rfl)
theorem dX1_cold_45 : decode cX1_cold 45 = .ok (.iinc 3 1, 3) := dk_132 3 1 (dk_at dksX1_cold_2 0 rfl rfl)
theorem dX1_cold_48 : decode cX1_cold 48 = .ok (.goto (-44), 3) := dk_167 255 212 (dk_at dksX1_cold_2 3 rfl rfl)
theorem dX1_cold_51 : decode cX1_cold 51 = .ok (.iload_n 2, 1) := dk_28 (dk_at dksX1_cold_2 6 rfl rfl)
theorem dX1_cold_52 : decode cX1_cold 52 = .ok (.ireturn, 1) := dk_172 (dk_at dksX1_cold_2 7 rfl rfl)
set_option maxHeartbeats 4000000 in
set_option maxRecDepth 100000 in
noncomputable def fn_X1_cold_4 (l0 : Option Nat) (l1 : Int32) (k0 : Int32 → cz_H → cz_Z) : Nat → Int32 → Int32 → cz_H → cz_Z
  | 0, _, _, _ => none
  | n + 1, l2, l3, h => cz_rc h l0 [0] (cz_cI (fn_X1_men l0 h) (fun x8 h7 => (if x8 ≤ l3 then k0 l2 h7 else cz_getR h7 l0 [(0, 4)] (fun r9 => cz_getR h7 l0 [(0, 4)] (fun r10 => cz_rc h7 r10 [3] (cz_cI (fn_X3_wornBy r10 l3 h7) (fun x18 h17 => cz_getR h17 l0 [(0, 4)] (fun r19 => cz_getI h17 r19 [(3, 1)] (fun x20 => cz_rc h17 r9 [3] (cz_cI (fn_X3_chill r9 l3 x18 x20 h17) (fun x28 h27 => cz_cI (fn_X3_square x28 h27) (fun x30 h29 => (if x30 ≤ l1 then cz_leti (l3 + 1) (fun x31 => fn_X1_cold_4 l0 l1 k0 n l2 x31 h29) else cz_leti (l2 + 1) (fun x32 => cz_leti (l3 + 1) (fun x33 => fn_X1_cold_4 l0 l1 k0 n x32 x33 h29)))))))))))))))
set_option maxHeartbeats 4000000 in
set_option maxRecDepth 100000 in
theorem wk_X1_cold_4 {K : cz_K} {D : cz_D} {h0 : cz_H} {oh : cz_O × cz_H} {l0 : Option Nat} {l1 : Int32} {k0 : Int32 → cz_H → cz_Z} (S : cz_S K D h0 cX1_cold 4 "HeldCoats" ((Option.some Jvm.ClassFile.FieldType.int)) "cold" ([])) (hk0 : ∀ (e2 : Int32) (h : cz_H), cz_T K D 7 h0 oh 4 (k0 e2 h) h 51 [(2, cz_i e2)] []) : ∀ (n : Nat) (l2 : Int32) (l3 : Int32) (h : cz_H), cz_T K D 7 h0 oh 4 (fn_X1_cold_4 l0 l1 k0 n l2 l3 h) h 4 [(0, cz_r l0), (1, cz_i l1), (2, cz_i l2), (3, cz_i l3)] [] := by
  intro n
  induction n with
  | zero => intros; exact ct_none
  | succ n ih =>
    intro l2 l3 h
    rw [fn_X1_cold_4]
    refine ct_iload_n (k := 3) S dX1_cold_4 rfl rfl ?_
    refine ct_aload_n (k := 0) S dX1_cold_5 rfl rfl ?_
    refine ct_rc (fun b1 ci2 V3 hb4 hc5 hi6 => ?_)
    refine ct_cI (st := [cz_i l3]) (cg_virtual (av := []) S hb4 hc5 hi6 (fun _ e => mt_X1_men e) md_X1_men q1469 q1471 se_HeldCoats_men___I_HeldCoats (by decide) (Nat.le_of_ble_eq_true rfl) rfl dX1_cold_6) (fun x8 h7 => ?_)
    refine ct_icmp_ge (tgt := 51) S dX1_cold_9 (by decide) ?_ ?_
    · exact ct_sub [2] rfl (hk0 l2 h7)
    · refine ct_aload_n (k := 0) S dX1_cold_12 rfl rfl ?_
      refine ct_getR S fw_X1_42 dX1_cold_13 (fun r9 => ?_)
      refine ct_iload_n (k := 3) S dX1_cold_16 rfl rfl ?_
      refine ct_aload_n (k := 0) S dX1_cold_17 rfl rfl ?_
      refine ct_getR S fw_X1_42 dX1_cold_18 (fun r10 => ?_)
      refine ct_iload_n (k := 3) S dX1_cold_21 rfl rfl ?_
      refine ct_rc (fun b11 ci12 V13 hb14 hc15 hi16 => ?_)
      refine ct_cI (st := [cz_i l3, cz_r r9]) (cg_virtual (av := [cz_i l3]) S hb14 hc15 hi16 (fun _ e => mt_X3_wornBy e) md_X3_wornBy q1366 q1222 se_HeldCoats_Reign_wornBy__I_I_HeldCoats_Reign (by decide) (Nat.le_of_ble_eq_true rfl) rfl dX1_cold_22) (fun x18 h17 => ?_)
      refine ct_aload_n (k := 0) S dX1_cold_25 rfl rfl ?_
      refine ct_getR S fw_X1_42 dX1_cold_26 (fun r19 => ?_)
      refine ct_getI S fw_X1_15 dX1_cold_29 (fun x20 => ?_)
      refine ct_rc (fun b21 ci22 V23 hb24 hc25 hi26 => ?_)
      refine ct_cI (st := []) (cg_virtual (av := [cz_i l3, cz_i x18, cz_i x20]) S hb24 hc25 hi26 (fun _ e => mt_X3_chill e) md_X3_chill q1373 q1226 se_HeldCoats_Reign_chill__III_I_HeldCoats_Reign (by decide) (Nat.le_of_ble_eq_true rfl) rfl dX1_cold_32) (fun x28 h27 => ?_)
      refine ct_cI (st := []) (cg_static (av := [cz_i x28]) S (fun _ e => mt_X3_square e) md_X3_square (Or.inl q1374) q1237 (by decide) (Nat.le_of_ble_eq_true rfl) rfl dX1_cold_35) (fun x30 h29 => ?_)
      refine ct_iload_n (k := 1) S dX1_cold_38 rfl rfl ?_
      refine ct_icmp_le (tgt := 45) S dX1_cold_39 (by decide) ?_ ?_
      · refine ct_iincL (j := 3) (L2 := fun x31 => [(3, cz_i x31), (0, cz_r l0), (1, cz_i l1), (2, cz_i l2)]) S dX1_cold_45 rfl kI_1 (by decide) (fun _ => rfl) (fun x31 => ?_)
        refine ct_goto (tgt := 4) S dX1_cold_48 (by decide) ?_
        exact ct_sub [1, 2, 3, 0] rfl (ih l2 x31 h29)
      · refine ct_iincL (j := 2) (L2 := fun x32 => [(2, cz_i x32), (0, cz_r l0), (1, cz_i l1), (3, cz_i l3)]) S dX1_cold_42 rfl kI_1 (by decide) (fun _ => rfl) (fun x32 => ?_)
        refine ct_iincL (j := 3) (L2 := fun x33 => [(3, cz_i x33), (2, cz_i x32), (0, cz_r l0), (1, cz_i l1)]) S dX1_cold_45 rfl kI_1 (by decide) (fun _ => rfl) (fun x33 => ?_)
        refine ct_goto (tgt := 4) S dX1_cold_48 (by decide) ?_
        exact ct_sub [2, 3, 1, 0] rfl (ih x32 x33 h29)
set_option maxHeartbeats 4000000 in
set_option maxRecDepth 100000 in
noncomputable def fn_X1_cold (l0 : Option Nat) (l1 : Int32) (h : cz_H) : cz_Z := fn_X1_cold_4 l0 l1 (fun (e34 : Int32) (h35 : cz_H) => some (.inl (some (cz_i e34)), h35)) 1000 0 0 h
set_option maxHeartbeats 4000000 in
set_option maxRecDepth 100000 in
theorem wk_X1_cold {K : cz_K} {D : cz_D} {h0 : cz_H} {oh : cz_O × cz_H} {l0 : Option Nat} {l1 : Int32} {h : cz_H} (S : cz_S K D h0 cX1_cold 4 "HeldCoats" ((Option.some Jvm.ClassFile.FieldType.int)) "cold" ([])) : cz_T K D 7 h0 oh 4 (fn_X1_cold l0 l1 h) h 0 [(0, cz_r l0), (1, cz_i l1)] [] := by
  unfold fn_X1_cold
  refine ct_iconst (v := 0) S dX1_cold_0 kI_0 ?_
  refine ct_istore_n (L' := [(2, cz_i 0), (0, cz_r l0), (1, cz_i l1)]) S dX1_cold_1 rfl (by decide) rfl ?_
  refine ct_iconst (v := 0) S dX1_cold_2 kI_0 ?_
  refine ct_istore_n (L' := [(3, cz_i 0), (2, cz_i 0), (0, cz_r l0), (1, cz_i l1)]) S dX1_cold_3 rfl (by decide) rfl ?_
  refine ct_sub [2, 3, 1, 0] (L' := [(0, cz_r l0), (1, cz_i l1), (2, cz_i 0), (3, cz_i 0)]) rfl (wk_X1_cold_4 S ?_ 1000 0 0 h)
  · intro e34 h35
    refine ct_iload_n (k := 0) S dX1_cold_51 rfl rfl ?_
    exact ct_iret S rfl dX1_cold_52
theorem mt_X1_cold {l : Launch} {D : cz_D} {l0 : Option Nat} {l1 : Int32} {h : cz_H} {oh : cz_O × cz_H} (hz : fn_X1_cold l0 l1 h = some oh) : cz_M l D yX1_cold (ws_ yX1_cold cX1_cold 4 ((Option.some Jvm.ClassFile.FieldType.int))) 7 [cz_r l0, cz_i l1] h oh := cz_met (plainFor_of_name (by decide)) (Nat.le_of_ble_eq_true rfl) hz (fun K hl S => wk_X1_cold S)
/-! HeldCoats.rounds()I -/
def dkwX1_rounds_3 : List UInt8 := [158, 0, 13, 42, 89, 180, 0, 65, 4, 100, 181, 0, 65, 132, 1, 1, 167, 255, 179, 27, 172]
abbrev dktX1_rounds_3 : List UInt8 := dkwX1_rounds_3 ++ []
def dkwX1_rounds_2 : List UInt8 := [158, 0, 16, 42, 89, 180, 0, 65, 4, 96, 181, 0, 65, 167, 0, 24, 29, 156, 0, 20, 42, 180, 0, 65]
abbrev dktX1_rounds_2 : List UInt8 := dkwX1_rounds_2 ++ dktX1_rounds_3
def dkwX1_rounds_1 : List UInt8 := [180, 0, 65, 61, 42, 42, 180, 0, 65, 182, 1, 75, 42, 180, 0, 42, 180, 0, 229, 100, 62, 29]
abbrev dktX1_rounds_1 : List UInt8 := dkwX1_rounds_1 ++ dktX1_rounds_2
def dkwX1_rounds_0 : List UInt8 := [42, 8, 181, 0, 65, 3, 60, 2, 61, 42, 180, 0, 65, 28, 159, 0, 75, 27, 16, 60, 162, 0, 69, 42]
abbrev dktX1_rounds_0 : List UInt8 := dkwX1_rounds_0 ++ dktX1_rounds_1
theorem dksX1_rounds_0 : cX1_rounds.data.toList.drop 0 = dktX1_rounds_0 := by decide +kernel
theorem dksX1_rounds_1 : cX1_rounds.data.toList.drop 24 = dktX1_rounds_1 := dk_seg dksX1_rounds_0 24 rfl rfl
theorem dksX1_rounds_2 : cX1_rounds.data.toList.drop 46 = dktX1_rounds_2 := dk_seg dksX1_rounds_1 22 rfl rfl
theorem dksX1_rounds_3 : cX1_rounds.data.toList.drop 70 = dktX1_rounds_3 := dk_seg dksX1_rounds_2 24 rfl rfl
theorem dX1_rounds_0 : decode cX1_rounds 0 = .ok (.aload_n 0, 1) := dk_42 (dk_at dksX1_rounds_0 0 rfl rfl)
theorem dX1_rounds_1 : decode cX1_rounds 1 = .ok (.iconst 5, 1) := dk_8 (dk_at dksX1_rounds_0 1 rfl rfl)
theorem dX1_rounds_2 : decode cX1_rounds 2 = .ok (.putfield 65, 3) := dk_181 0 65 (dk_at dksX1_rounds_0 2 rfl rfl)
theorem dX1_rounds_5 : decode cX1_rounds 5 = .ok (.iconst 0, 1) := dk_3 (dk_at dksX1_rounds_0 5 rfl rfl)
theorem dX1_rounds_6 : decode cX1_rounds 6 = .ok (.istore_n 1, 1) := dk_60 (dk_at dksX1_rounds_0 6 rfl rfl)
theorem dX1_rounds_7 : decode cX1_rounds 7 = .ok (.iconst (-1), 1) := dk_2 (dk_at dksX1_rounds_0 7 rfl rfl)
theorem dX1_rounds_8 : decode cX1_rounds 8 = .ok (.istore_n 2, 1) := dk_61 (dk_at dksX1_rounds_0 8 rfl rfl)
theorem dX1_rounds_9 : decode cX1_rounds 9 = .ok (.aload_n 0, 1) := dk_42 (dk_at dksX1_rounds_0 9 rfl rfl)
theorem dX1_rounds_10 : decode cX1_rounds 10 = .ok (.getfield 65, 3) := dk_180 0 65 (dk_at dksX1_rounds_0 10 rfl rfl)
theorem dX1_rounds_13 : decode cX1_rounds 13 = .ok (.iload_n 2, 1) := dk_28 (dk_at dksX1_rounds_0 13 rfl rfl)
theorem dX1_rounds_14 : decode cX1_rounds 14 = .ok (.if_icmp .eq 75, 3) := dk_159 0 75 (dk_at dksX1_rounds_0 14 rfl rfl)
theorem dX1_rounds_17 : decode cX1_rounds 17 = .ok (.iload_n 1, 1) := dk_27 (dk_at dksX1_rounds_0 17 rfl rfl)
theorem dX1_rounds_18 : decode cX1_rounds 18 = .ok (.bipush 60, 2) := dk_16 60 (dk_at dksX1_rounds_0 18 rfl rfl)
theorem dX1_rounds_20 : decode cX1_rounds 20 = .ok (.if_icmp .ge 69, 3) := dk_162 0 69 (dk_at dksX1_rounds_0 20 rfl rfl)
theorem dX1_rounds_23 : decode cX1_rounds 23 = .ok (.aload_n 0, 1) := dk_42 (dk_at dksX1_rounds_0 23 rfl rfl)
theorem dX1_rounds_24 : decode cX1_rounds 24 = .ok (.getfield 65, 3) := dk_180 0 65 (dk_at dksX1_rounds_1 0 rfl rfl)
theorem dX1_rounds_27 : decode cX1_rounds 27 = .ok (.istore_n 2, 1) := dk_61 (dk_at dksX1_rounds_1 3 rfl rfl)
theorem dX1_rounds_28 : decode cX1_rounds 28 = .ok (.aload_n 0, 1) := dk_42 (dk_at dksX1_rounds_1 4 rfl rfl)
theorem dX1_rounds_29 : decode cX1_rounds 29 = .ok (.aload_n 0, 1) := dk_42 (dk_at dksX1_rounds_1 5 rfl rfl)
theorem dX1_rounds_30 : decode cX1_rounds 30 = .ok (.getfield 65, 3) := dk_180 0 65 (dk_at dksX1_rounds_1 6 rfl rfl)
theorem dX1_rounds_33 : decode cX1_rounds 33 = .ok (.invokevirtual 331, 3) := dk_182 1 75 (dk_at dksX1_rounds_1 9 rfl rfl)
theorem dX1_rounds_36 : decode cX1_rounds 36 = .ok (.aload_n 0, 1) := dk_42 (dk_at dksX1_rounds_1 12 rfl rfl)
theorem dX1_rounds_37 : decode cX1_rounds 37 = .ok (.getfield 42, 3) := dk_180 0 42 (dk_at dksX1_rounds_1 13 rfl rfl)
theorem dX1_rounds_40 : decode cX1_rounds 40 = .ok (.getfield 229, 3) := dk_180 0 229 (dk_at dksX1_rounds_1 16 rfl rfl)
theorem dX1_rounds_43 : decode cX1_rounds 43 = .ok (.isub, 1) := dk_100 (dk_at dksX1_rounds_1 19 rfl rfl)
theorem dX1_rounds_44 : decode cX1_rounds 44 = .ok (.istore_n 3, 1) := dk_62 (dk_at dksX1_rounds_1 20 rfl rfl)
theorem dX1_rounds_45 : decode cX1_rounds 45 = .ok (.iload_n 3, 1) := dk_29 (dk_at dksX1_rounds_1 21 rfl rfl)
theorem dX1_rounds_46 : decode cX1_rounds 46 = .ok (.ifCond .le 16, 3) := dk_158 0 16 (dk_at dksX1_rounds_2 0 rfl rfl)
theorem dX1_rounds_49 : decode cX1_rounds 49 = .ok (.aload_n 0, 1) := dk_42 (dk_at dksX1_rounds_2 3 rfl rfl)
theorem dX1_rounds_50 : decode cX1_rounds 50 = .ok (.dup, 1) := dk_89 (dk_at dksX1_rounds_2 4 rfl rfl)
theorem dX1_rounds_51 : decode cX1_rounds 51 = .ok (.getfield 65, 3) := dk_180 0 65 (dk_at dksX1_rounds_2 5 rfl rfl)
theorem dX1_rounds_54 : decode cX1_rounds 54 = .ok (.iconst 1, 1) := dk_4 (dk_at dksX1_rounds_2 8 rfl rfl)
theorem dX1_rounds_55 : decode cX1_rounds 55 = .ok (.iadd, 1) := dk_96 (dk_at dksX1_rounds_2 9 rfl rfl)
theorem dX1_rounds_56 : decode cX1_rounds 56 = .ok (.putfield 65, 3) := dk_181 0 65 (dk_at dksX1_rounds_2 10 rfl rfl)
theorem dX1_rounds_59 : decode cX1_rounds 59 = .ok (.goto 24, 3) := dk_167 0 24 (dk_at dksX1_rounds_2 13 rfl rfl)
theorem dX1_rounds_62 : decode cX1_rounds 62 = .ok (.iload_n 3, 1) := dk_29 (dk_at dksX1_rounds_2 16 rfl rfl)
theorem dX1_rounds_63 : decode cX1_rounds 63 = .ok (.ifCond .ge 20, 3) := dk_156 0 20 (dk_at dksX1_rounds_2 17 rfl rfl)
theorem dX1_rounds_66 : decode cX1_rounds 66 = .ok (.aload_n 0, 1) := dk_42 (dk_at dksX1_rounds_2 20 rfl rfl)
theorem dX1_rounds_67 : decode cX1_rounds 67 = .ok (.getfield 65, 3) := dk_180 0 65 (dk_at dksX1_rounds_2 21 rfl rfl)
theorem dX1_rounds_70 : decode cX1_rounds 70 = .ok (.ifCond .le 13, 3) := dk_158 0 13 (dk_at dksX1_rounds_3 0 rfl rfl)
theorem dX1_rounds_73 : decode cX1_rounds 73 = .ok (.aload_n 0, 1) := dk_42 (dk_at dksX1_rounds_3 3 rfl rfl)
theorem dX1_rounds_74 : decode cX1_rounds 74 = .ok (.dup, 1) := dk_89 (dk_at dksX1_rounds_3 4 rfl rfl)
theorem dX1_rounds_75 : decode cX1_rounds 75 = .ok (.getfield 65, 3) := dk_180 0 65 (dk_at dksX1_rounds_3 5 rfl rfl)
theorem dX1_rounds_78 : decode cX1_rounds 78 = .ok (.iconst 1, 1) := dk_4 (dk_at dksX1_rounds_3 8 rfl rfl)
theorem dX1_rounds_79 : decode cX1_rounds 79 = .ok (.isub, 1) := dk_100 (dk_at dksX1_rounds_3 9 rfl rfl)
theorem dX1_rounds_80 : decode cX1_rounds 80 = .ok (.putfield 65, 3) := dk_181 0 65 (dk_at dksX1_rounds_3 10 rfl rfl)
theorem dX1_rounds_83 : decode cX1_rounds 83 = .ok (.iinc 1 1, 3) := dk_132 1 1 (dk_at dksX1_rounds_3 13 rfl rfl)
theorem dX1_rounds_86 : decode cX1_rounds 86 = .ok (.goto (-77), 3) := dk_167 255 179 (dk_at dksX1_rounds_3 16 rfl rfl)
theorem dX1_rounds_89 : decode cX1_rounds 89 = .ok (.iload_n 1, 1) := dk_27 (dk_at dksX1_rounds_3 19 rfl rfl)
theorem dX1_rounds_90 : decode cX1_rounds 90 = .ok (.ireturn, 1) := dk_172 (dk_at dksX1_rounds_3 20 rfl rfl)
theorem fp_X1_m_0_15 {nm : String} : cz_FP "HeldCoats" nm [(0, 15)] := List.forall_mem_cons.mpr ⟨⟨RX1, TX1, 18, rfl, Or.inl rfl⟩, fun _ h => absurd h List.not_mem_nil⟩
theorem se_HeldCoats_cold__I_I_HeldCoats : ∀ c ∈ ([0] : List Nat), ∃ q : vw_C, cz_cl[c]? = some q ∧ Cond.selects q.1 (⟨"HeldCoats", "cold", "(I)I"⟩ : MethodName) (⟨"HeldCoats", "cold", "(I)I"⟩ : MethodName) ∈ lw_all := List.forall_mem_cons.mpr ⟨⟨_, cz_cl0, qs31⟩, fun _ h => absurd h List.not_mem_nil⟩
theorem md_X1_cold : cz_md yX1_cold 4 (ws_ yX1_cold cX1_cold 4 ((Option.some Jvm.ClassFile.FieldType.int))) 1 := ⟨cz_ws_code q1489, q113, ⟨by decide, by decide, by decide +kernel⟩, by decide⟩
set_option maxHeartbeats 4000000 in
set_option maxRecDepth 100000 in
noncomputable def fn_X1_rounds_9 (l0 : Option Nat) (k0 : Int32 → cz_H → cz_Z) : Nat → Int32 → Int32 → cz_H → cz_Z
  | 0, _, _, _ => none
  | n + 1, l1, l2, h => cz_getI h l0 [(0, 15)] (fun x2 => (if x2 = l2 then k0 l1 h else (if (60 : Int32) ≤ l1 then k0 l1 h else cz_getI h l0 [(0, 15)] (fun x3 => cz_getI h l0 [(0, 15)] (fun x4 => cz_rc h l0 [0] (cz_cI (fn_X1_cold l0 x4 h) (fun x12 h11 => cz_getR h11 l0 [(0, 4)] (fun r13 => cz_getI h11 r13 [(3, 5)] (fun x14 => cz_leti (x12 - x14) (fun x15 => (if x15 ≤ 0 then (if 0 ≤ x15 then cz_leti (l1 + 1) (fun x16 => fn_X1_rounds_9 l0 k0 n x16 x3 h11) else cz_getI h11 l0 [(0, 15)] (fun x17 => (if x17 ≤ 0 then cz_leti (l1 + 1) (fun x18 => fn_X1_rounds_9 l0 k0 n x18 x3 h11) else cz_getI h11 l0 [(0, 15)] (fun x19 => cz_put h11 l0 [(0, 15)] (cz_i (x19 - 1)) (fun h20 => cz_leti (l1 + 1) (fun x21 => fn_X1_rounds_9 l0 k0 n x21 x3 h20)))))) else cz_getI h11 l0 [(0, 15)] (fun x22 => cz_put h11 l0 [(0, 15)] (cz_i (x22 + 1)) (fun h23 => cz_leti (l1 + 1) (fun x24 => fn_X1_rounds_9 l0 k0 n x24 x3 h23))))))))))))))
set_option maxHeartbeats 4000000 in
set_option maxRecDepth 100000 in
theorem wk_X1_rounds_9 {K : cz_K} {D : cz_D} {h0 : cz_H} {oh : cz_O × cz_H} {l0 : Option Nat} {k0 : Int32 → cz_H → cz_Z} (S : cz_S K D h0 cX1_rounds 4 "HeldCoats" ((Option.some Jvm.ClassFile.FieldType.int)) "rounds" ([])) (hk0 : ∀ (e1 : Int32) (h : cz_H), cz_T K D 8 h0 oh 4 (k0 e1 h) h 89 [(1, cz_i e1)] []) : ∀ (n : Nat) (l1 : Int32) (l2 : Int32) (h : cz_H), cz_T K D 8 h0 oh 4 (fn_X1_rounds_9 l0 k0 n l1 l2 h) h 9 [(0, cz_r l0), (1, cz_i l1), (2, cz_i l2)] [] := by
  intro n
  induction n with
  | zero => intros; exact ct_none
  | succ n ih =>
    intro l1 l2 h
    rw [fn_X1_rounds_9]
    refine ct_aload_n (k := 0) S dX1_rounds_9 rfl rfl ?_
    refine ct_getI S fw_X1_65 dX1_rounds_10 (fun x2 => ?_)
    refine ct_iload_n (k := 2) S dX1_rounds_13 rfl rfl ?_
    refine ct_icmp_eq (tgt := 89) S dX1_rounds_14 (by decide) ?_ ?_
    · exact ct_sub [1] rfl (hk0 l1 h)
    · refine ct_iload_n (k := 1) S dX1_rounds_17 rfl rfl ?_
      refine ct_bipush (v := 60) S dX1_rounds_18 kB_60 ?_
      refine ct_icmp_ge (tgt := 89) S dX1_rounds_20 (by decide) ?_ ?_
      · exact ct_sub [1] rfl (hk0 l1 h)
      · refine ct_aload_n (k := 0) S dX1_rounds_23 rfl rfl ?_
        refine ct_getI S fw_X1_65 dX1_rounds_24 (fun x3 => ?_)
        refine ct_istore_n (L' := [(2, cz_i x3), (0, cz_r l0), (1, cz_i l1)]) S dX1_rounds_27 rfl (by decide) rfl ?_
        refine ct_aload_n (k := 1) S dX1_rounds_28 rfl rfl ?_
        refine ct_aload_n (k := 1) S dX1_rounds_29 rfl rfl ?_
        refine ct_getI S fw_X1_65 dX1_rounds_30 (fun x4 => ?_)
        refine ct_rc (fun b5 ci6 V7 hb8 hc9 hi10 => ?_)
        refine ct_cI (st := []) (cg_virtual (av := [cz_i x4]) S hb8 hc9 hi10 (fun _ e => mt_X1_cold e) md_X1_cold q1486 q1488 se_HeldCoats_cold__I_I_HeldCoats (by decide) (Nat.le_of_ble_eq_true rfl) rfl dX1_rounds_33) (fun x12 h11 => ?_)
        refine ct_aload_n (k := 1) S dX1_rounds_36 rfl rfl ?_
        refine ct_getR S fw_X1_42 dX1_rounds_37 (fun r13 => ?_)
        refine ct_getI S fw_X1_229 dX1_rounds_40 (fun x14 => ?_)
        refine ct_isub S dX1_rounds_43 ?_
        refine ct_leti (fun x15 => ?_)
        refine ct_istore_n (L' := [(3, cz_i x15), (2, cz_i x3), (0, cz_r l0), (1, cz_i l1)]) S dX1_rounds_44 rfl (by decide) rfl ?_
        refine ct_iload_n (k := 0) S dX1_rounds_45 rfl rfl ?_
        refine ct_if_le (tgt := 62) S dX1_rounds_46 (by decide) ?_ ?_
        · refine ct_iload_n (k := 0) S dX1_rounds_62 rfl rfl ?_
          refine ct_if_ge (tgt := 83) S dX1_rounds_63 (by decide) ?_ ?_
          · refine ct_iincL (j := 3) (L2 := fun x16 => [(1, cz_i x16), (3, cz_i x15), (2, cz_i x3), (0, cz_r l0)]) S dX1_rounds_83 rfl kI_1 (by decide) (fun _ => rfl) (fun x16 => ?_)
            refine ct_goto (tgt := 9) S dX1_rounds_86 (by decide) ?_
            exact ct_sub [3, 0, 2] rfl (ih x16 x3 h11)
          · refine ct_aload_n (k := 2) S dX1_rounds_66 rfl rfl ?_
            refine ct_getI S fw_X1_65 dX1_rounds_67 (fun x17 => ?_)
            refine ct_if_le (tgt := 83) S dX1_rounds_70 (by decide) ?_ ?_
            · refine ct_iincL (j := 3) (L2 := fun x18 => [(1, cz_i x18), (3, cz_i x15), (2, cz_i x3), (0, cz_r l0)]) S dX1_rounds_83 rfl kI_1 (by decide) (fun _ => rfl) (fun x18 => ?_)
              refine ct_goto (tgt := 9) S dX1_rounds_86 (by decide) ?_
              exact ct_sub [3, 0, 2] rfl (ih x18 x3 h11)
            · refine ct_aload_n (k := 2) S dX1_rounds_73 rfl rfl ?_
              refine ct_dup S dX1_rounds_74 rfl ?_
              refine ct_getI S fw_X1_65 dX1_rounds_75 (fun x19 => ?_)
              refine ct_iconst (v := 1) S dX1_rounds_78 kI_1 ?_
              refine ct_isub S dX1_rounds_79 ?_
              refine ct_put S fw_X1_65 fp_X1_m_0_15 (cz_fits_i pd_I) dX1_rounds_80 (fun h20 => ?_)
              refine ct_iincL (j := 3) (L2 := fun x21 => [(1, cz_i x21), (3, cz_i x15), (2, cz_i x3), (0, cz_r l0)]) S dX1_rounds_83 rfl kI_1 (by decide) (fun _ => rfl) (fun x21 => ?_)
              refine ct_goto (tgt := 9) S dX1_rounds_86 (by decide) ?_
              exact ct_sub [3, 0, 2] rfl (ih x21 x3 h20)
        · refine ct_aload_n (k := 2) S dX1_rounds_49 rfl rfl ?_
          refine ct_dup S dX1_rounds_50 rfl ?_
          refine ct_getI S fw_X1_65 dX1_rounds_51 (fun x22 => ?_)
          refine ct_iconst (v := 1) S dX1_rounds_54 kI_1 ?_
          refine ct_iadd S dX1_rounds_55 ?_
          refine ct_put S fw_X1_65 fp_X1_m_0_15 (cz_fits_i pd_I) dX1_rounds_56 (fun h23 => ?_)
          refine ct_goto (tgt := 83) S dX1_rounds_59 (by decide) ?_
          refine ct_iincL (j := 3) (L2 := fun x24 => [(1, cz_i x24), (3, cz_i x15), (2, cz_i x3), (0, cz_r l0)]) S dX1_rounds_83 rfl kI_1 (by decide) (fun _ => rfl) (fun x24 => ?_)
          refine ct_goto (tgt := 9) S dX1_rounds_86 (by decide) ?_
          exact ct_sub [3, 0, 2] rfl (ih x24 x3 h23)
set_option maxHeartbeats 4000000 in
set_option maxRecDepth 100000 in
noncomputable def fn_X1_rounds (l0 : Option Nat) (h : cz_H) : cz_Z := cz_put h l0 [(0, 15)] (cz_i 5) (fun h1 => fn_X1_rounds_9 l0 (fun (e25 : Int32) (h26 : cz_H) => some (.inl (some (cz_i e25)), h26)) 1000 0 (-1) h1)
set_option maxHeartbeats 4000000 in
set_option maxRecDepth 100000 in
theorem wk_X1_rounds {K : cz_K} {D : cz_D} {h0 : cz_H} {oh : cz_O × cz_H} {l0 : Option Nat} {h : cz_H} (S : cz_S K D h0 cX1_rounds 4 "HeldCoats" ((Option.some Jvm.ClassFile.FieldType.int)) "rounds" ([])) : cz_T K D 8 h0 oh 4 (fn_X1_rounds l0 h) h 0 [(0, cz_r l0)] [] := by
  unfold fn_X1_rounds
  refine ct_aload_n (k := 0) S dX1_rounds_0 rfl rfl ?_
  refine ct_iconst (v := 5) S dX1_rounds_1 kI_5 ?_
  refine ct_put S fw_X1_65 fp_X1_m_0_15 (cz_fits_i pd_I) dX1_rounds_2 (fun h1 => ?_)
  refine ct_iconst (v := 0) S dX1_rounds_5 kI_0 ?_
  refine ct_istore_n (L' := [(1, cz_i 0), (0, cz_r l0)]) S dX1_rounds_6 rfl (by decide) rfl ?_
  refine ct_iconst (v := (-1)) S dX1_rounds_7 kI_m1 ?_
  refine ct_istore_n (L' := [(2, cz_i (-1)), (1, cz_i 0), (0, cz_r l0)]) S dX1_rounds_8 rfl (by decide) rfl ?_
  refine ct_sub [2, 1, 0] (L' := [(0, cz_r l0), (1, cz_i 0), (2, cz_i (-1))]) rfl (wk_X1_rounds_9 S ?_ 1000 0 (-1) h1)
  · intro e25 h26
    refine ct_iload_n (k := 0) S dX1_rounds_89 rfl rfl ?_
    exact ct_iret S rfl dX1_rounds_90
theorem mt_X1_rounds {l : Launch} {D : cz_D} {l0 : Option Nat} {h : cz_H} {oh : cz_O × cz_H} (hz : fn_X1_rounds l0 h = some oh) : cz_M l D yX1_rounds (ws_ yX1_rounds cX1_rounds 4 ((Option.some Jvm.ClassFile.FieldType.int))) 8 [cz_r l0] h oh := cz_met (plainFor_of_name (by decide)) (Nat.le_of_ble_eq_true rfl) hz (fun K hl S => wk_X1_rounds S)
/-! HeldCoats.rules(I)I -/
def dkwX1_rules_0 : List UInt8 := [42, 27, 182, 0, 129, 153, 0, 11, 42, 27, 182, 1, 64, 167, 0, 4, 2, 172]
abbrev dktX1_rules_0 : List UInt8 := dkwX1_rules_0 ++ []
theorem dksX1_rules_0 : cX1_rules.data.toList.drop 0 = dktX1_rules_0 := by decide +kernel
theorem dX1_rules_0 : decode cX1_rules 0 = .ok (.aload_n 0, 1) := dk_42 (dk_at dksX1_rules_0 0 rfl rfl)
theorem dX1_rules_1 : decode cX1_rules 1 = .ok (.iload_n 1, 1) := dk_27 (dk_at dksX1_rules_0 1 rfl rfl)
theorem dX1_rules_2 : decode cX1_rules 2 = .ok (.invokevirtual 129, 3) := dk_182 0 129 (dk_at dksX1_rules_0 2 rfl rfl)
theorem dX1_rules_5 : decode cX1_rules 5 = .ok (.ifCond .eq 11, 3) := dk_153 0 11 (dk_at dksX1_rules_0 5 rfl rfl)
theorem dX1_rules_8 : decode cX1_rules 8 = .ok (.aload_n 0, 1) := dk_42 (dk_at dksX1_rules_0 8 rfl rfl)
theorem dX1_rules_9 : decode cX1_rules 9 = .ok (.iload_n 1, 1) := dk_27 (dk_at dksX1_rules_0 9 rfl rfl)
theorem dX1_rules_10 : decode cX1_rules 10 = .ok (.invokevirtual 320, 3) := dk_182 1 64 (dk_at dksX1_rules_0 10 rfl rfl)
theorem dX1_rules_13 : decode cX1_rules 13 = .ok (.goto 4, 3) := dk_167 0 4 (dk_at dksX1_rules_0 13 rfl rfl)
theorem dX1_rules_16 : decode cX1_rules 16 = .ok (.iconst (-1), 1) := dk_2 (dk_at dksX1_rules_0 16 rfl rfl)
theorem dX1_rules_17 : decode cX1_rules 17 = .ok (.ireturn, 1) := dk_172 (dk_at dksX1_rules_0 17 rfl rfl)
set_option maxHeartbeats 4000000 in
set_option maxRecDepth 100000 in
noncomputable def fn_X1_rules (l0 : Option Nat) (l1 : Int32) (h : cz_H) : cz_Z := cz_rc h l0 [0] (cz_cI (fn_X1_isMan l0 l1 h) (fun x8 h7 => (if x8 = 0 then some (.inl (some (cz_i (-1))), h7) else cz_rc h7 l0 [0] (cz_cI (fn_X1_firstDay l0 l1 h7) (fun x16 h15 => some (.inl (some (cz_i x16)), h15))))))
set_option maxHeartbeats 4000000 in
set_option maxRecDepth 100000 in
theorem wk_X1_rules {K : cz_K} {D : cz_D} {h0 : cz_H} {oh : cz_O × cz_H} {l0 : Option Nat} {l1 : Int32} {h : cz_H} (S : cz_S K D h0 cX1_rules 2 "HeldCoats" ((Option.some Jvm.ClassFile.FieldType.int)) "rules" ([])) : cz_T K D 11 h0 oh 2 (fn_X1_rules l0 l1 h) h 0 [(0, cz_r l0), (1, cz_i l1)] [] := by
  unfold fn_X1_rules
  refine ct_aload_n (k := 0) S dX1_rules_0 rfl rfl ?_
  refine ct_iload_n (k := 1) S dX1_rules_1 rfl rfl ?_
  refine ct_rc (fun b1 ci2 V3 hb4 hc5 hi6 => ?_)
  refine ct_cI (st := []) (cg_virtual (av := [cz_i l1]) S hb4 hc5 hi6 (fun _ e => mt_X1_isMan e) md_X1_isMan q1309 q1311 se_HeldCoats_isMan__I_Z_HeldCoats (by decide) (Nat.le_of_ble_eq_true rfl) rfl dX1_rules_2) (fun x8 h7 => ?_)
  refine ct_if_eq (tgt := 16) S dX1_rules_5 (by decide) ?_ ?_
  · refine ct_iconst (v := (-1)) S dX1_rules_16 kI_m1 ?_
    exact ct_iret S rfl dX1_rules_17
  · refine ct_aload_n (k := 0) S dX1_rules_8 rfl rfl ?_
    refine ct_iload_n (k := 1) S dX1_rules_9 rfl rfl ?_
    refine ct_rc (fun b9 ci10 V11 hb12 hc13 hi14 => ?_)
    refine ct_cI (st := []) (cg_virtual (av := [cz_i l1]) S hb12 hc13 hi14 (fun _ e => mt_X1_firstDay e) md_X1_firstDay q1449 q1451 se_HeldCoats_firstDay__I_I_HeldCoats (by decide) (Nat.le_of_ble_eq_true rfl) rfl dX1_rules_10) (fun x16 h15 => ?_)
    refine ct_goto (tgt := 17) S dX1_rules_13 (by decide) ?_
    exact ct_iret S rfl dX1_rules_17
theorem mt_X1_rules {l : Launch} {D : cz_D} {l0 : Option Nat} {l1 : Int32} {h : cz_H} {oh : cz_O × cz_H} (hz : fn_X1_rules l0 l1 h = some oh) : cz_M l D yX1_rules (ws_ yX1_rules cX1_rules 2 ((Option.some Jvm.ClassFile.FieldType.int))) 11 [cz_r l0, cz_i l1] h oh := cz_met (plainFor_of_name (by decide)) (Nat.le_of_ble_eq_true rfl) hz (fun K hl S => wk_X1_rules S)
/-! HeldCoats.lain(LHeldCoats$Reign;I)I -/
def dkwX1_lain_1 : List UInt8 := [182, 0, 7, 46, 100, 172]
abbrev dktX1_lain_1 : List UInt8 := dkwX1_lain_1 ++ []
def dkwX1_lain_0 : List UInt8 := [42, 27, 182, 0, 7, 2, 160, 0, 7, 3, 167, 0, 18, 42, 180, 0, 15, 42, 180, 0, 19, 42, 27]
abbrev dktX1_lain_0 : List UInt8 := dkwX1_lain_0 ++ dktX1_lain_1
theorem dksX1_lain_0 : cX1_lain.data.toList.drop 0 = dktX1_lain_0 := by decide +kernel
theorem dksX1_lain_1 : cX1_lain.data.toList.drop 23 = dktX1_lain_1 := dk_seg dksX1_lain_0 23 rfl rfl
theorem dX1_lain_0 : decode cX1_lain 0 = .ok (.aload_n 0, 1) := dk_42 (dk_at dksX1_lain_0 0 rfl rfl)
theorem dX1_lain_1 : decode cX1_lain 1 = .ok (.iload_n 1, 1) := dk_27 (dk_at dksX1_lain_0 1 rfl rfl)
theorem dX1_lain_2 : decode cX1_lain 2 = .ok (.invokevirtual 7, 3) := dk_182 0 7 (dk_at dksX1_lain_0 2 rfl rfl)
theorem dX1_lain_5 : decode cX1_lain 5 = .ok (.iconst (-1), 1) := dk_2 (dk_at dksX1_lain_0 5 rfl rfl)
theorem dX1_lain_6 : decode cX1_lain 6 = .ok (.if_icmp .ne 7, 3) := dk_160 0 7 (dk_at dksX1_lain_0 6 rfl rfl)
theorem dX1_lain_9 : decode cX1_lain 9 = .ok (.iconst 0, 1) := dk_3 (dk_at dksX1_lain_0 9 rfl rfl)
theorem dX1_lain_10 : decode cX1_lain 10 = .ok (.goto 18, 3) := dk_167 0 18 (dk_at dksX1_lain_0 10 rfl rfl)
theorem dX1_lain_13 : decode cX1_lain 13 = .ok (.aload_n 0, 1) := dk_42 (dk_at dksX1_lain_0 13 rfl rfl)
theorem dX1_lain_14 : decode cX1_lain 14 = .ok (.getfield 15, 3) := dk_180 0 15 (dk_at dksX1_lain_0 14 rfl rfl)
theorem dX1_lain_17 : decode cX1_lain 17 = .ok (.aload_n 0, 1) := dk_42 (dk_at dksX1_lain_0 17 rfl rfl)
theorem dX1_lain_18 : decode cX1_lain 18 = .ok (.getfield 19, 3) := dk_180 0 19 (dk_at dksX1_lain_0 18 rfl rfl)
theorem dX1_lain_21 : decode cX1_lain 21 = .ok (.aload_n 0, 1) := dk_42 (dk_at dksX1_lain_0 21 rfl rfl)
theorem dX1_lain_22 : decode cX1_lain 22 = .ok (.iload_n 1, 1) := dk_27 (dk_at dksX1_lain_0 22 rfl rfl)
theorem dX1_lain_23 : decode cX1_lain 23 = .ok (.invokevirtual 7, 3) := dk_182 0 7 (dk_at dksX1_lain_1 0 rfl rfl)
theorem dX1_lain_26 : decode cX1_lain 26 = .ok (.iaload, 1) := dk_46 (dk_at dksX1_lain_1 3 rfl rfl)
theorem dX1_lain_27 : decode cX1_lain 27 = .ok (.isub, 1) := dk_100 (dk_at dksX1_lain_1 4 rfl rfl)
theorem dX1_lain_28 : decode cX1_lain 28 = .ok (.ireturn, 1) := dk_172 (dk_at dksX1_lain_1 5 rfl rfl)
theorem fw_X1_19 : cz_FW "HeldCoats" 19 [(3, 9)] "[I" := ⟨"HeldCoats$Reign", "since", Or.inr ⟨_, q292⟩, List.forall_mem_cons.mpr ⟨⟨RX3, TX3, 14, rfl, by decide, rfl, rfl, Or.inl rfl⟩, fun _ h => absurd h List.not_mem_nil⟩, by decide⟩
set_option maxHeartbeats 4000000 in
set_option maxRecDepth 100000 in
noncomputable def fn_X1_lain (l0 : Option Nat) (l1 : Int32) (h : cz_H) : cz_Z := cz_rc h l0 [3] (cz_cI (fn_X3_on l0 l1 h) (fun x8 h7 => (if x8 = (-1) then some (.inl (some (cz_i 0)), h7) else cz_getI h7 l0 [(3, 1)] (fun x9 => cz_getR h7 l0 [(3, 9)] (fun r10 => cz_rc h7 l0 [3] (cz_cI (fn_X3_on l0 l1 h7) (fun x18 h17 => cz_iald h17 r10 x18 (fun x19 => some (.inl (some (cz_i (x9 - x19))), h17)))))))))
set_option maxHeartbeats 4000000 in
set_option maxRecDepth 100000 in
theorem wk_X1_lain {K : cz_K} {D : cz_D} {h0 : cz_H} {oh : cz_O × cz_H} {l0 : Option Nat} {l1 : Int32} {h : cz_H} (S : cz_S K D h0 cX1_lain 2 "HeldCoats" ((Option.some Jvm.ClassFile.FieldType.int)) "lain" ([])) : cz_T K D 5 h0 oh 2 (fn_X1_lain l0 l1 h) h 0 [(0, cz_r l0), (1, cz_i l1)] [] := by
  unfold fn_X1_lain
  refine ct_aload_n (k := 0) S dX1_lain_0 rfl rfl ?_
  refine ct_iload_n (k := 1) S dX1_lain_1 rfl rfl ?_
  refine ct_rc (fun b1 ci2 V3 hb4 hc5 hi6 => ?_)
  refine ct_cI (st := []) (cg_virtual (av := [cz_i l1]) S hb4 hc5 hi6 (fun _ e => mt_X3_on e) md_X3_on q1094 q1095 se_HeldCoats_Reign_on__I_I_HeldCoats_Reign (by decide) (Nat.le_of_ble_eq_true rfl) rfl dX1_lain_2) (fun x8 h7 => ?_)
  refine ct_iconst (v := (-1)) S dX1_lain_5 kI_m1 ?_
  refine ct_icmp_ne (tgt := 13) S dX1_lain_6 (by decide) ?_ ?_
  · refine ct_aload_n (k := 0) S dX1_lain_13 rfl rfl ?_
    refine ct_getI S fw_X1_15 dX1_lain_14 (fun x9 => ?_)
    refine ct_aload_n (k := 0) S dX1_lain_17 rfl rfl ?_
    refine ct_getR S fw_X1_19 dX1_lain_18 (fun r10 => ?_)
    refine ct_aload_n (k := 0) S dX1_lain_21 rfl rfl ?_
    refine ct_iload_n (k := 1) S dX1_lain_22 rfl rfl ?_
    refine ct_rc (fun b11 ci12 V13 hb14 hc15 hi16 => ?_)
    refine ct_cI (st := [cz_r r10, cz_i x9]) (cg_virtual (av := [cz_i l1]) S hb14 hc15 hi16 (fun _ e => mt_X3_on e) md_X3_on q1094 q1095 se_HeldCoats_Reign_on__I_I_HeldCoats_Reign (by decide) (Nat.le_of_ble_eq_true rfl) rfl dX1_lain_23) (fun x18 h17 => ?_)
    refine ct_iald S dX1_lain_26 (fun x19 => ?_)
    refine ct_isub S dX1_lain_27 ?_
    exact ct_iret S rfl dX1_lain_28
  · refine ct_iconst (v := 0) S dX1_lain_9 kI_0 ?_
    refine ct_goto (tgt := 28) S dX1_lain_10 (by decide) ?_
    exact ct_iret S rfl dX1_lain_28
theorem mt_X1_lain {l : Launch} {D : cz_D} {l0 : Option Nat} {l1 : Int32} {h : cz_H} {oh : cz_O × cz_H} (hz : fn_X1_lain l0 l1 h = some oh) : cz_M l D yX1_lain (ws_ yX1_lain cX1_lain 2 ((Option.some Jvm.ClassFile.FieldType.int))) 5 [cz_r l0, cz_i l1] h oh := cz_met (plainFor_of_name (by decide)) (Nat.le_of_ble_eq_true rfl) hz (fun K hl S => wk_X1_lain S)
/-! HeldCoats$Not.holds(LHeldCoats$Reign;I)Z -/
def dkwX23_holds_0 : List UInt8 := [42, 180, 0, 7, 43, 28, 182, 0, 13, 154, 0, 7, 4, 167, 0, 4, 3, 172]
abbrev dktX23_holds_0 : List UInt8 := dkwX23_holds_0 ++ []
theorem dksX23_holds_0 : cX23_holds.data.toList.drop 0 = dktX23_holds_0 := by decide +kernel
theorem dX23_holds_0 : decode cX23_holds 0 = .ok (.aload_n 0, 1) := dk_42 (dk_at dksX23_holds_0 0 rfl rfl)
theorem dX23_holds_1 : decode cX23_holds 1 = .ok (.getfield 7, 3) := dk_180 0 7 (dk_at dksX23_holds_0 1 rfl rfl)
theorem dX23_holds_4 : decode cX23_holds 4 = .ok (.aload_n 1, 1) := dk_43 (dk_at dksX23_holds_0 4 rfl rfl)
theorem dX23_holds_5 : decode cX23_holds 5 = .ok (.iload_n 2, 1) := dk_28 (dk_at dksX23_holds_0 5 rfl rfl)
theorem dX23_holds_6 : decode cX23_holds 6 = .ok (.invokevirtual 13, 3) := dk_182 0 13 (dk_at dksX23_holds_0 6 rfl rfl)
theorem dX23_holds_9 : decode cX23_holds 9 = .ok (.ifCond .ne 7, 3) := dk_154 0 7 (dk_at dksX23_holds_0 9 rfl rfl)
theorem dX23_holds_12 : decode cX23_holds 12 = .ok (.iconst 1, 1) := dk_4 (dk_at dksX23_holds_0 12 rfl rfl)
theorem dX23_holds_13 : decode cX23_holds 13 = .ok (.goto 4, 3) := dk_167 0 4 (dk_at dksX23_holds_0 13 rfl rfl)
theorem dX23_holds_16 : decode cX23_holds 16 = .ok (.iconst 0, 1) := dk_3 (dk_at dksX23_holds_0 16 rfl rfl)
theorem dX23_holds_17 : decode cX23_holds 17 = .ok (.ireturn, 1) := dk_172 (dk_at dksX23_holds_0 17 rfl rfl)
theorem fw_X23_7 : cz_FW "HeldCoats$Not" 7 [(19, 0)] "LHeldCoats$Cond;" := ⟨"HeldCoats$Not", "x", Or.inl q1703, List.forall_mem_cons.mpr ⟨⟨RX23, TX23, 1, rfl, by decide, rfl, rfl, Or.inl rfl⟩, fun _ h => absurd h List.not_mem_nil⟩, by decide⟩
theorem nh_HeldCoats_Cond_holds__LHeldCoats_Reign_I_Z : cz_nh ⟨"HeldCoats$Cond", "holds", "(LHeldCoats$Reign;I)Z"⟩ 2 := ⟨by decide, by decide, by decide +kernel⟩
set_option maxHeartbeats 4000000 in
set_option maxRecDepth 100000 in
noncomputable def fn_X23_holds_b (F : Option Nat → Option Nat → Int32 → cz_H → cz_Z) (l0 : Option Nat) (l1 : Option Nat) (l2 : Int32) (h : cz_H) : cz_Z := cz_getR h l0 [(19, 0)] (fun r1 => cz_cI (F r1 l1 l2 h) (fun x9 h8 => (if x9 = 0 then some (.inl (some (cz_i 1)), h8) else some (.inl (some (cz_i 0)), h8))))
set_option maxHeartbeats 4000000 in
set_option maxRecDepth 100000 in
theorem wk_X23_holds {K : cz_K} {D : cz_D} {h0 : cz_H} {oh : cz_O × cz_H} {dd : Nat} {F : Option Nat → Option Nat → Int32 → cz_H → cz_Z} {l0 : Option Nat} {l1 : Option Nat} {l2 : Int32} {h : cz_H} (hdd : 7 ≤ dd) (HF : ∀ (r R : Option Nat) (s : Int32) (h : cz_H) (oh' : cz_O × cz_H), F r R s h = some oh' → cz_DM K.2.1 D ⟨"HeldCoats$Cond", "holds", "(LHeldCoats$Reign;I)Z"⟩ dd r [cz_r R, cz_i s] h oh') (S : cz_S K D h0 cX23_holds 3 "HeldCoats$Not" ((Option.some Jvm.ClassFile.FieldType.boolean)) "holds" ([])) : cz_T K D (dd + 1) h0 oh 3 (fn_X23_holds_b F l0 l1 l2 h) h 0 [(0, cz_r l0), (1, cz_r l1), (2, cz_i l2)] [] := by
  unfold fn_X23_holds_b
  refine ct_aload_n (k := 0) S dX23_holds_0 rfl rfl ?_
  refine ct_getR S fw_X23_7 dX23_holds_1 (fun r1 => ?_)
  refine ct_aload_n (k := 1) S dX23_holds_4 rfl rfl ?_
  refine ct_iload_n (k := 2) S dX23_holds_5 rfl rfl ?_
  refine ct_cI (st := []) (cg_disp (owner := "HeldCoats$Cond") (av := [cz_r l1, cz_i l2]) S (fun _ e => HF _ _ _ _ _ e) q1789 q1780 q1779 ⟨by decide, by decide⟩ nh_HeldCoats_Cond_holds__LHeldCoats_Reign_I_Z (by omega) (Nat.le_of_ble_eq_true rfl) rfl dX23_holds_6) (fun x9 h8 => ?_)
  refine ct_if_ne (tgt := 16) S dX23_holds_9 (by decide) ?_ ?_
  · refine ct_iconst (v := 0) S dX23_holds_16 kI_0 ?_
    exact ct_zr (ty := .boolean) S rfl rfl dX23_holds_17
  · refine ct_iconst (v := 1) S dX23_holds_12 kI_1 ?_
    refine ct_goto (tgt := 17) S dX23_holds_13 (by decide) ?_
    exact ct_zr (ty := .boolean) S rfl rfl dX23_holds_17
/-! HeldCoats$IsSo.holds(LHeldCoats$Reign;I)Z -/
def dkwX24_holds_1 : List UInt8 := [43, 28, 182, 0, 21, 2, 159, 0, 7, 4, 167, 0, 4, 3, 172]
abbrev dktX24_holds_1 : List UInt8 := dkwX24_holds_1 ++ []
def dkwX24_holds_0 : List UInt8 := [42, 180, 0, 9, 153, 0, 20, 43, 28, 182, 0, 15, 2, 160, 0, 7, 4, 167, 0, 21, 3, 167, 0, 17]
abbrev dktX24_holds_0 : List UInt8 := dkwX24_holds_0 ++ dktX24_holds_1
theorem dksX24_holds_0 : cX24_holds.data.toList.drop 0 = dktX24_holds_0 := by decide +kernel
theorem dksX24_holds_1 : cX24_holds.data.toList.drop 24 = dktX24_holds_1 := dk_seg dksX24_holds_0 24 rfl rfl
theorem dX24_holds_0 : decode cX24_holds 0 = .ok (.aload_n 0, 1) := dk_42 (dk_at dksX24_holds_0 0 rfl rfl)
theorem dX24_holds_1 : decode cX24_holds 1 = .ok (.getfield 9, 3) := dk_180 0 9 (dk_at dksX24_holds_0 1 rfl rfl)
theorem dX24_holds_4 : decode cX24_holds 4 = .ok (.ifCond .eq 20, 3) := dk_153 0 20 (dk_at dksX24_holds_0 4 rfl rfl)
theorem dX24_holds_7 : decode cX24_holds 7 = .ok (.aload_n 1, 1) := dk_43 (dk_at dksX24_holds_0 7 rfl rfl)
theorem dX24_holds_8 : decode cX24_holds 8 = .ok (.iload_n 2, 1) := dk_28 (dk_at dksX24_holds_0 8 rfl rfl)
theorem dX24_holds_9 : decode cX24_holds 9 = .ok (.invokevirtual 15, 3) := dk_182 0 15 (dk_at dksX24_holds_0 9 rfl rfl)
theorem dX24_holds_12 : decode cX24_holds 12 = .ok (.iconst (-1), 1) := dk_2 (dk_at dksX24_holds_0 12 rfl rfl)
theorem dX24_holds_13 : decode cX24_holds 13 = .ok (.if_icmp .ne 7, 3) := dk_160 0 7 (dk_at dksX24_holds_0 13 rfl rfl)
theorem dX24_holds_16 : decode cX24_holds 16 = .ok (.iconst 1, 1) := dk_4 (dk_at dksX24_holds_0 16 rfl rfl)
theorem dX24_holds_17 : decode cX24_holds 17 = .ok (.goto 21, 3) := dk_167 0 21 (dk_at dksX24_holds_0 17 rfl rfl)
theorem dX24_holds_20 : decode cX24_holds 20 = .ok (.iconst 0, 1) := dk_3 (dk_at dksX24_holds_0 20 rfl rfl)
theorem dX24_holds_21 : decode cX24_holds 21 = .ok (.goto 17, 3) := dk_167 0 17 (dk_at dksX24_holds_0 21 rfl rfl)
theorem dX24_holds_24 : decode cX24_holds 24 = .ok (.aload_n 1, 1) := dk_43 (dk_at dksX24_holds_1 0 rfl rfl)
theorem dX24_holds_25 : decode cX24_holds 25 = .ok (.iload_n 2, 1) := dk_28 (dk_at dksX24_holds_1 1 rfl rfl)
theorem dX24_holds_26 : decode cX24_holds 26 = .ok (.invokevirtual 21, 3) := dk_182 0 21 (dk_at dksX24_holds_1 2 rfl rfl)
theorem dX24_holds_29 : decode cX24_holds 29 = .ok (.iconst (-1), 1) := dk_2 (dk_at dksX24_holds_1 5 rfl rfl)
theorem dX24_holds_30 : decode cX24_holds 30 = .ok (.if_icmp .eq 7, 3) := dk_159 0 7 (dk_at dksX24_holds_1 6 rfl rfl)
theorem dX24_holds_33 : decode cX24_holds 33 = .ok (.iconst 1, 1) := dk_4 (dk_at dksX24_holds_1 9 rfl rfl)
theorem dX24_holds_34 : decode cX24_holds 34 = .ok (.goto 4, 3) := dk_167 0 4 (dk_at dksX24_holds_1 10 rfl rfl)
theorem dX24_holds_37 : decode cX24_holds 37 = .ok (.iconst 0, 1) := dk_3 (dk_at dksX24_holds_1 13 rfl rfl)
theorem dX24_holds_38 : decode cX24_holds 38 = .ok (.ireturn, 1) := dk_172 (dk_at dksX24_holds_1 14 rfl rfl)
theorem fw_X24_9 : cz_FW "HeldCoats$IsSo" 9 [(20, 0)] "Z" := ⟨"HeldCoats$IsSo", "bare", Or.inl q1713, List.forall_mem_cons.mpr ⟨⟨RX24, TX24, 1, rfl, by decide, rfl, rfl, Or.inl rfl⟩, fun _ h => absurd h List.not_mem_nil⟩, by decide⟩
set_option maxHeartbeats 4000000 in
set_option maxRecDepth 100000 in
noncomputable def fn_X24_holds_b (l0 : Option Nat) (l1 : Option Nat) (l2 : Int32) (h : cz_H) : cz_Z := cz_getI h l0 [(20, 0)] (fun x1 => (if x1 = 0 then cz_rc h l1 [3] (cz_cI (fn_X3_holder l1 l2 h) (fun x9 h8 => (if x9 = (-1) then some (.inl (some (cz_i 0)), h8) else some (.inl (some (cz_i 1)), h8)))) else cz_rc h l1 [3] (cz_cI (fn_X3_on l1 l2 h) (fun x17 h16 => (if x17 = (-1) then some (.inl (some (cz_i 1)), h16) else some (.inl (some (cz_i 0)), h16))))))
set_option maxHeartbeats 4000000 in
set_option maxRecDepth 100000 in
theorem wk_X24_holds {K : cz_K} {D : cz_D} {h0 : cz_H} {oh : cz_O × cz_H} {dd : Nat} {l0 : Option Nat} {l1 : Option Nat} {l2 : Int32} {h : cz_H} (hdd : 7 ≤ dd) (S : cz_S K D h0 cX24_holds 3 "HeldCoats$IsSo" ((Option.some Jvm.ClassFile.FieldType.boolean)) "holds" ([])) : cz_T K D (dd + 1) h0 oh 3 (fn_X24_holds_b l0 l1 l2 h) h 0 [(0, cz_r l0), (1, cz_r l1), (2, cz_i l2)] [] := by
  unfold fn_X24_holds_b
  refine ct_aload_n (k := 0) S dX24_holds_0 rfl rfl ?_
  refine ct_getI S fw_X24_9 dX24_holds_1 (fun x1 => ?_)
  refine ct_if_eq (tgt := 24) S dX24_holds_4 (by decide) ?_ ?_
  · refine ct_aload_n (k := 1) S dX24_holds_24 rfl rfl ?_
    refine ct_iload_n (k := 2) S dX24_holds_25 rfl rfl ?_
    refine ct_rc (fun b2 ci3 V4 hb5 hc6 hi7 => ?_)
    refine ct_cI (st := []) (cg_virtual (av := [cz_i l2]) S hb5 hc6 hi7 (fun _ e => mt_X3_holder e) md_X3_holder q1785 q1099 se_HeldCoats_Reign_holder__I_I_HeldCoats_Reign (by omega) (Nat.le_of_ble_eq_true rfl) rfl dX24_holds_26) (fun x9 h8 => ?_)
    refine ct_iconst (v := (-1)) S dX24_holds_29 kI_m1 ?_
    refine ct_icmp_eq (tgt := 37) S dX24_holds_30 (by decide) ?_ ?_
    · refine ct_iconst (v := 0) S dX24_holds_37 kI_0 ?_
      exact ct_zr (ty := .boolean) S rfl rfl dX24_holds_38
    · refine ct_iconst (v := 1) S dX24_holds_33 kI_1 ?_
      refine ct_goto (tgt := 38) S dX24_holds_34 (by decide) ?_
      exact ct_zr (ty := .boolean) S rfl rfl dX24_holds_38
  · refine ct_aload_n (k := 1) S dX24_holds_7 rfl rfl ?_
    refine ct_iload_n (k := 2) S dX24_holds_8 rfl rfl ?_
    refine ct_rc (fun b10 ci11 V12 hb13 hc14 hi15 => ?_)
    refine ct_cI (st := []) (cg_virtual (av := [cz_i l2]) S hb13 hc14 hi15 (fun _ e => mt_X3_on e) md_X3_on q1784 q1095 se_HeldCoats_Reign_on__I_I_HeldCoats_Reign (by omega) (Nat.le_of_ble_eq_true rfl) rfl dX24_holds_9) (fun x17 h16 => ?_)
    refine ct_iconst (v := (-1)) S dX24_holds_12 kI_m1 ?_
    refine ct_icmp_ne (tgt := 20) S dX24_holds_13 (by decide) ?_ ?_
    · refine ct_iconst (v := 0) S dX24_holds_20 kI_0 ?_
      refine ct_goto (tgt := 38) S dX24_holds_21 (by decide) ?_
      exact ct_zr (ty := .boolean) S rfl rfl dX24_holds_38
    · refine ct_iconst (v := 1) S dX24_holds_16 kI_1 ?_
      refine ct_goto (tgt := 38) S dX24_holds_17 (by decide) ?_
      exact ct_zr (ty := .boolean) S rfl rfl dX24_holds_38
/-! HeldCoats$Of.holds(LHeldCoats$Reign;I)Z -/
def dkwX25_holds_1 : List UInt8 := [160, 0, 7, 4, 167, 0, 4, 3, 172]
abbrev dktX25_holds_1 : List UInt8 := dkwX25_holds_1 ++ []
def dkwX25_holds_0 : List UInt8 := [42, 180, 0, 7, 153, 0, 11, 43, 28, 182, 0, 17, 167, 0, 8, 43, 28, 182, 0, 23, 42, 180, 0, 13]
abbrev dktX25_holds_0 : List UInt8 := dkwX25_holds_0 ++ dktX25_holds_1
theorem dksX25_holds_0 : cX25_holds.data.toList.drop 0 = dktX25_holds_0 := by decide +kernel
theorem dksX25_holds_1 : cX25_holds.data.toList.drop 24 = dktX25_holds_1 := dk_seg dksX25_holds_0 24 rfl rfl
theorem dX25_holds_0 : decode cX25_holds 0 = .ok (.aload_n 0, 1) := dk_42 (dk_at dksX25_holds_0 0 rfl rfl)
theorem dX25_holds_1 : decode cX25_holds 1 = .ok (.getfield 7, 3) := dk_180 0 7 (dk_at dksX25_holds_0 1 rfl rfl)
theorem dX25_holds_4 : decode cX25_holds 4 = .ok (.ifCond .eq 11, 3) := dk_153 0 11 (dk_at dksX25_holds_0 4 rfl rfl)
theorem dX25_holds_7 : decode cX25_holds 7 = .ok (.aload_n 1, 1) := dk_43 (dk_at dksX25_holds_0 7 rfl rfl)
theorem dX25_holds_8 : decode cX25_holds 8 = .ok (.iload_n 2, 1) := dk_28 (dk_at dksX25_holds_0 8 rfl rfl)
theorem dX25_holds_9 : decode cX25_holds 9 = .ok (.invokevirtual 17, 3) := dk_182 0 17 (dk_at dksX25_holds_0 9 rfl rfl)
theorem dX25_holds_12 : decode cX25_holds 12 = .ok (.goto 8, 3) := dk_167 0 8 (dk_at dksX25_holds_0 12 rfl rfl)
theorem dX25_holds_15 : decode cX25_holds 15 = .ok (.aload_n 1, 1) := dk_43 (dk_at dksX25_holds_0 15 rfl rfl)
theorem dX25_holds_16 : decode cX25_holds 16 = .ok (.iload_n 2, 1) := dk_28 (dk_at dksX25_holds_0 16 rfl rfl)
theorem dX25_holds_17 : decode cX25_holds 17 = .ok (.invokevirtual 23, 3) := dk_182 0 23 (dk_at dksX25_holds_0 17 rfl rfl)
theorem dX25_holds_20 : decode cX25_holds 20 = .ok (.aload_n 0, 1) := dk_42 (dk_at dksX25_holds_0 20 rfl rfl)
theorem dX25_holds_21 : decode cX25_holds 21 = .ok (.getfield 13, 3) := dk_180 0 13 (dk_at dksX25_holds_0 21 rfl rfl)
theorem dX25_holds_24 : decode cX25_holds 24 = .ok (.if_icmp .ne 7, 3) := dk_160 0 7 (dk_at dksX25_holds_1 0 rfl rfl)
theorem dX25_holds_27 : decode cX25_holds 27 = .ok (.iconst 1, 1) := dk_4 (dk_at dksX25_holds_1 3 rfl rfl)
theorem dX25_holds_28 : decode cX25_holds 28 = .ok (.goto 4, 3) := dk_167 0 4 (dk_at dksX25_holds_1 4 rfl rfl)
theorem dX25_holds_31 : decode cX25_holds 31 = .ok (.iconst 0, 1) := dk_3 (dk_at dksX25_holds_1 7 rfl rfl)
theorem dX25_holds_32 : decode cX25_holds 32 = .ok (.ireturn, 1) := dk_172 (dk_at dksX25_holds_1 8 rfl rfl)
theorem fw_X25_7 : cz_FW "HeldCoats$Of" 7 [(21, 0)] "Z" := ⟨"HeldCoats$Of", "man", Or.inl q1726, List.forall_mem_cons.mpr ⟨⟨RX25, TX25, 2, rfl, by decide, rfl, rfl, Or.inl rfl⟩, fun _ h => absurd h List.not_mem_nil⟩, by decide⟩
theorem fw_X25_13 : cz_FW "HeldCoats$Of" 13 [(21, 1)] "I" := ⟨"HeldCoats$Of", "which", Or.inl q1727, List.forall_mem_cons.mpr ⟨⟨RX25, TX25, 2, rfl, by decide, rfl, rfl, Or.inl rfl⟩, fun _ h => absurd h List.not_mem_nil⟩, by decide⟩
set_option maxHeartbeats 4000000 in
set_option maxRecDepth 100000 in
noncomputable def fn_X25_holds_b (l0 : Option Nat) (l1 : Option Nat) (l2 : Int32) (h : cz_H) : cz_Z := cz_getI h l0 [(21, 0)] (fun x1 => cz_jn (fun (v2 : Int32) (h3 : cz_H) => cz_getI h3 l0 [(21, 1)] (fun x4 => (if v2 = x4 then some (.inl (some (cz_i 1)), h3) else some (.inl (some (cz_i 0)), h3)))) (fun j5 => (if x1 = 0 then cz_rc h l1 [3] (cz_cI (fn_X3_on l1 l2 h) (fun x13 h12 => j5 x13 h12)) else cz_rc h l1 [3] (cz_cI (fn_X3_holder l1 l2 h) (fun x21 h20 => j5 x21 h20)))))
set_option maxHeartbeats 4000000 in
set_option maxRecDepth 100000 in
theorem wk_X25_holds {K : cz_K} {D : cz_D} {h0 : cz_H} {oh : cz_O × cz_H} {dd : Nat} {l0 : Option Nat} {l1 : Option Nat} {l2 : Int32} {h : cz_H} (hdd : 7 ≤ dd) (S : cz_S K D h0 cX25_holds 3 "HeldCoats$Of" ((Option.some Jvm.ClassFile.FieldType.boolean)) "holds" ([])) : cz_T K D (dd + 1) h0 oh 3 (fn_X25_holds_b l0 l1 l2 h) h 0 [(0, cz_r l0), (1, cz_r l1), (2, cz_i l2)] [] := by
  unfold fn_X25_holds_b
  refine ct_aload_n (k := 0) S dX25_holds_0 rfl rfl ?_
  refine ct_getI S fw_X25_7 dX25_holds_1 (fun x1 => ?_)
  refine ct_jnP (fun j5 => ∀ (v2 : Int32) (h3 : cz_H), cz_T K D (dd + 1) h0 oh 3 (j5 v2 h3) h3 20 [(0, cz_r l0)] [cz_i v2]) (fun v2 h3 => ?_) (fun j5 Hj5 => ?_)
  · refine ct_aload_n (k := 0) S dX25_holds_20 rfl rfl ?_
    refine ct_getI S fw_X25_13 dX25_holds_21 (fun x4 => ?_)
    refine ct_icmp_ne (tgt := 31) S dX25_holds_24 (by decide) ?_ ?_
    · refine ct_iconst (v := 0) S dX25_holds_31 kI_0 ?_
      exact ct_zr (ty := .boolean) S rfl rfl dX25_holds_32
    · refine ct_iconst (v := 1) S dX25_holds_27 kI_1 ?_
      refine ct_goto (tgt := 32) S dX25_holds_28 (by decide) ?_
      exact ct_zr (ty := .boolean) S rfl rfl dX25_holds_32
  · refine ct_if_eq (tgt := 15) S dX25_holds_4 (by decide) ?_ ?_
    · refine ct_aload_n (k := 1) S dX25_holds_15 rfl rfl ?_
      refine ct_iload_n (k := 2) S dX25_holds_16 rfl rfl ?_
      refine ct_rc (fun b6 ci7 V8 hb9 hc10 hi11 => ?_)
      refine ct_cI (st := []) (cg_virtual (av := [cz_i l2]) S hb9 hc10 hi11 (fun _ e => mt_X3_on e) md_X3_on q1793 q1095 se_HeldCoats_Reign_on__I_I_HeldCoats_Reign (by omega) (Nat.le_of_ble_eq_true rfl) rfl dX25_holds_17) (fun x13 h12 => ?_)
      exact ct_sub [0] rfl (Hj5 x13 h12)
    · refine ct_aload_n (k := 1) S dX25_holds_7 rfl rfl ?_
      refine ct_iload_n (k := 2) S dX25_holds_8 rfl rfl ?_
      refine ct_rc (fun b14 ci15 V16 hb17 hc18 hi19 => ?_)
      refine ct_cI (st := []) (cg_virtual (av := [cz_i l2]) S hb17 hc18 hi19 (fun _ e => mt_X3_holder e) md_X3_holder q1792 q1099 se_HeldCoats_Reign_holder__I_I_HeldCoats_Reign (by omega) (Nat.le_of_ble_eq_true rfl) rfl dX25_holds_9) (fun x21 h20 => ?_)
      refine ct_goto (tgt := 20) S dX25_holds_12 (by decide) ?_
      exact ct_sub [0] rfl (Hj5 x21 h20)
/-! HeldCoats$Than.holds(LHeldCoats$Reign;I)Z -/
def dkwX26_holds_6 : List UInt8 := [172]
abbrev dktX26_holds_6 : List UInt8 := dkwX26_holds_6 ++ []
def dkwX26_holds_5 : List UInt8 := [160, 0, 7, 4, 167, 0, 20, 3, 167, 0, 16, 29, 42, 180, 0, 18, 164, 0, 7, 4, 167, 0, 4, 3]
abbrev dktX26_holds_5 : List UInt8 := dkwX26_holds_5 ++ dktX26_holds_6
def dkwX26_holds_4 : List UInt8 := [4, 167, 0, 45, 3, 167, 0, 41, 42, 180, 0, 15, 16, 61, 160, 0, 19, 29, 42, 180, 0, 18]
abbrev dktX26_holds_4 : List UInt8 := dkwX26_holds_4 ++ dktX26_holds_5
def dkwX26_holds_3 : List UInt8 := [43, 28, 182, 0, 46, 46, 62, 42, 180, 0, 15, 16, 60, 160, 0, 19, 29, 42, 180, 0, 18, 162, 0, 7]
abbrev dktX26_holds_3 : List UInt8 := dkwX26_holds_3 ++ dktX26_holds_4
def dkwX26_holds_2 : List UInt8 := [160, 0, 7, 28, 167, 0, 26, 43, 28, 182, 0, 46, 2, 160, 0, 7, 3, 167, 0, 13, 43, 180, 0, 50]
abbrev dktX26_holds_2 : List UInt8 := dkwX26_holds_2 ++ dktX26_holds_3
def dkwX26_holds_1 : List UInt8 := [167, 0, 54, 42, 180, 0, 9, 4, 160, 0, 11, 43, 28, 184, 0, 42, 167, 0, 38, 42, 180, 0, 9, 6]
abbrev dktX26_holds_1 : List UInt8 := dkwX26_holds_1 ++ dktX26_holds_2
def dkwX26_holds_0 : List UInt8 := [42, 180, 0, 9, 154, 0, 23, 43, 180, 0, 21, 180, 0, 27, 28, 182, 0, 33, 192, 0, 39, 180, 0, 41]
abbrev dktX26_holds_0 : List UInt8 := dkwX26_holds_0 ++ dktX26_holds_1
theorem dksX26_holds_0 : cX26_holds.data.toList.drop 0 = dktX26_holds_0 := by decide +kernel
theorem dksX26_holds_1 : cX26_holds.data.toList.drop 24 = dktX26_holds_1 := dk_seg dksX26_holds_0 24 rfl rfl
theorem dksX26_holds_2 : cX26_holds.data.toList.drop 48 = dktX26_holds_2 := dk_seg dksX26_holds_1 24 rfl rfl
theorem dksX26_holds_3 : cX26_holds.data.toList.drop 72 = dktX26_holds_3 := dk_seg dksX26_holds_2 24 rfl rfl
theorem dksX26_holds_4 : cX26_holds.data.toList.drop 96 = dktX26_holds_4 := dk_seg dksX26_holds_3 24 rfl rfl
theorem dksX26_holds_5 : cX26_holds.data.toList.drop 118 = dktX26_holds_5 := dk_seg dksX26_holds_4 22 rfl rfl
theorem dksX26_holds_6 : cX26_holds.data.toList.drop 142 = dktX26_holds_6 := dk_seg dksX26_holds_5 24 rfl rfl
theorem dX26_holds_0 : decode cX26_holds 0 = .ok (.aload_n 0, 1) := dk_42 (dk_at dksX26_holds_0 0 rfl rfl)
theorem dX26_holds_1 : decode cX26_holds 1 = .ok (.getfield 9, 3) := dk_180 0 9 (dk_at dksX26_holds_0 1 rfl rfl)
theorem dX26_holds_4 : decode cX26_holds 4 = .ok (.ifCond .ne 23, 3) := dk_154 0 23 (dk_at dksX26_holds_0 4 rfl rfl)
theorem dX26_holds_7 : decode cX26_holds 7 = .ok (.aload_n 1, 1) := dk_43 (dk_at dksX26_holds_0 7 rfl rfl)
theorem dX26_holds_8 : decode cX26_holds 8 = .ok (.getfield 21, 3) := dk_180 0 21 (dk_at dksX26_holds_0 8 rfl rfl)
theorem dX26_holds_11 : decode cX26_holds 11 = .ok (.getfield 27, 3) := dk_180 0 27 (dk_at dksX26_holds_0 11 rfl rfl)
theorem dX26_holds_14 : decode cX26_holds 14 = .ok (.iload_n 2, 1) := dk_28 (dk_at dksX26_holds_0 14 rfl rfl)
theorem dX26_holds_15 : decode cX26_holds 15 = .ok (.invokevirtual 33, 3) := dk_182 0 33 (dk_at dksX26_holds_0 15 rfl rfl)
theorem dX26_holds_18 : decode cX26_holds 18 = .ok (.checkcast 39, 3) := dk_192 0 39 (dk_at dksX26_holds_0 18 rfl rfl)
theorem dX26_holds_21 : decode cX26_holds 21 = .ok (.getfield 41, 3) := dk_180 0 41 (dk_at dksX26_holds_0 21 rfl rfl)
theorem dX26_holds_24 : decode cX26_holds 24 = .ok (.goto 54, 3) := dk_167 0 54 (dk_at dksX26_holds_1 0 rfl rfl)
theorem dX26_holds_27 : decode cX26_holds 27 = .ok (.aload_n 0, 1) := dk_42 (dk_at dksX26_holds_1 3 rfl rfl)
theorem dX26_holds_28 : decode cX26_holds 28 = .ok (.getfield 9, 3) := dk_180 0 9 (dk_at dksX26_holds_1 4 rfl rfl)
theorem dX26_holds_31 : decode cX26_holds 31 = .ok (.iconst 1, 1) := dk_4 (dk_at dksX26_holds_1 7 rfl rfl)
theorem dX26_holds_32 : decode cX26_holds 32 = .ok (.if_icmp .ne 11, 3) := dk_160 0 11 (dk_at dksX26_holds_1 8 rfl rfl)
theorem dX26_holds_35 : decode cX26_holds 35 = .ok (.aload_n 1, 1) := dk_43 (dk_at dksX26_holds_1 11 rfl rfl)
theorem dX26_holds_36 : decode cX26_holds 36 = .ok (.iload_n 2, 1) := dk_28 (dk_at dksX26_holds_1 12 rfl rfl)
theorem dX26_holds_37 : decode cX26_holds 37 = .ok (.invokestatic 42, 3) := dk_184 0 42 (dk_at dksX26_holds_1 13 rfl rfl)
theorem dX26_holds_40 : decode cX26_holds 40 = .ok (.goto 38, 3) := dk_167 0 38 (dk_at dksX26_holds_1 16 rfl rfl)
theorem dX26_holds_43 : decode cX26_holds 43 = .ok (.aload_n 0, 1) := dk_42 (dk_at dksX26_holds_1 19 rfl rfl)
theorem dX26_holds_44 : decode cX26_holds 44 = .ok (.getfield 9, 3) := dk_180 0 9 (dk_at dksX26_holds_1 20 rfl rfl)
theorem dX26_holds_47 : decode cX26_holds 47 = .ok (.iconst 3, 1) := dk_6 (dk_at dksX26_holds_1 23 rfl rfl)
theorem dX26_holds_48 : decode cX26_holds 48 = .ok (.if_icmp .ne 7, 3) := dk_160 0 7 (dk_at dksX26_holds_2 0 rfl rfl)
theorem dX26_holds_51 : decode cX26_holds 51 = .ok (.iload_n 2, 1) := dk_28 (dk_at dksX26_holds_2 3 rfl rfl)
theorem dX26_holds_52 : decode cX26_holds 52 = .ok (.goto 26, 3) := dk_167 0 26 (dk_at dksX26_holds_2 4 rfl rfl)
theorem dX26_holds_55 : decode cX26_holds 55 = .ok (.aload_n 1, 1) := dk_43 (dk_at dksX26_holds_2 7 rfl rfl)
theorem dX26_holds_56 : decode cX26_holds 56 = .ok (.iload_n 2, 1) := dk_28 (dk_at dksX26_holds_2 8 rfl rfl)
theorem dX26_holds_57 : decode cX26_holds 57 = .ok (.invokevirtual 46, 3) := dk_182 0 46 (dk_at dksX26_holds_2 9 rfl rfl)
theorem dX26_holds_60 : decode cX26_holds 60 = .ok (.iconst (-1), 1) := dk_2 (dk_at dksX26_holds_2 12 rfl rfl)
theorem dX26_holds_61 : decode cX26_holds 61 = .ok (.if_icmp .ne 7, 3) := dk_160 0 7 (dk_at dksX26_holds_2 13 rfl rfl)
theorem dX26_holds_64 : decode cX26_holds 64 = .ok (.iconst 0, 1) := dk_3 (dk_at dksX26_holds_2 16 rfl rfl)
theorem dX26_holds_65 : decode cX26_holds 65 = .ok (.goto 13, 3) := dk_167 0 13 (dk_at dksX26_holds_2 17 rfl rfl)
theorem dX26_holds_68 : decode cX26_holds 68 = .ok (.aload_n 1, 1) := dk_43 (dk_at dksX26_holds_2 20 rfl rfl)
theorem dX26_holds_69 : decode cX26_holds 69 = .ok (.getfield 50, 3) := dk_180 0 50 (dk_at dksX26_holds_2 21 rfl rfl)
theorem dX26_holds_72 : decode cX26_holds 72 = .ok (.aload_n 1, 1) := dk_43 (dk_at dksX26_holds_3 0 rfl rfl)
theorem dX26_holds_73 : decode cX26_holds 73 = .ok (.iload_n 2, 1) := dk_28 (dk_at dksX26_holds_3 1 rfl rfl)
theorem dX26_holds_74 : decode cX26_holds 74 = .ok (.invokevirtual 46, 3) := dk_182 0 46 (dk_at dksX26_holds_3 2 rfl rfl)
theorem dX26_holds_77 : decode cX26_holds 77 = .ok (.iaload, 1) := dk_46 (dk_at dksX26_holds_3 5 rfl rfl)
theorem dX26_holds_78 : decode cX26_holds 78 = .ok (.istore_n 3, 1) := dk_62 (dk_at dksX26_holds_3 6 rfl rfl)
theorem dX26_holds_79 : decode cX26_holds 79 = .ok (.aload_n 0, 1) := dk_42 (dk_at dksX26_holds_3 7 rfl rfl)
theorem dX26_holds_80 : decode cX26_holds 80 = .ok (.getfield 15, 3) := dk_180 0 15 (dk_at dksX26_holds_3 8 rfl rfl)
theorem dX26_holds_83 : decode cX26_holds 83 = .ok (.bipush 60, 2) := dk_16 60 (dk_at dksX26_holds_3 11 rfl rfl)
theorem dX26_holds_85 : decode cX26_holds 85 = .ok (.if_icmp .ne 19, 3) := dk_160 0 19 (dk_at dksX26_holds_3 13 rfl rfl)
theorem dX26_holds_88 : decode cX26_holds 88 = .ok (.iload_n 3, 1) := dk_29 (dk_at dksX26_holds_3 16 rfl rfl)
theorem dX26_holds_89 : decode cX26_holds 89 = .ok (.aload_n 0, 1) := dk_42 (dk_at dksX26_holds_3 17 rfl rfl)
theorem dX26_holds_90 : decode cX26_holds 90 = .ok (.getfield 18, 3) := dk_180 0 18 (dk_at dksX26_holds_3 18 rfl rfl)
theorem dX26_holds_93 : decode cX26_holds 93 = .ok (.if_icmp .ge 7, 3) := dk_162 0 7 (dk_at dksX26_holds_3 21 rfl rfl)
theorem dX26_holds_96 : decode cX26_holds 96 = .ok (.iconst 1, 1) := dk_4 (dk_at dksX26_holds_4 0 rfl rfl)
theorem dX26_holds_97 : decode cX26_holds 97 = .ok (.goto 45, 3) := dk_167 0 45 (dk_at dksX26_holds_4 1 rfl rfl)
theorem dX26_holds_100 : decode cX26_holds 100 = .ok (.iconst 0, 1) := dk_3 (dk_at dksX26_holds_4 4 rfl rfl)
theorem dX26_holds_101 : decode cX26_holds 101 = .ok (.goto 41, 3) := dk_167 0 41 (dk_at dksX26_holds_4 5 rfl rfl)
theorem dX26_holds_104 : decode cX26_holds 104 = .ok (.aload_n 0, 1) := dk_42 (dk_at dksX26_holds_4 8 rfl rfl)
theorem dX26_holds_105 : decode cX26_holds 105 = .ok (.getfield 15, 3) := dk_180 0 15 (dk_at dksX26_holds_4 9 rfl rfl)
theorem dX26_holds_108 : decode cX26_holds 108 = .ok (.bipush 61, 2) := dk_16 61 (dk_at dksX26_holds_4 12 rfl rfl)
theorem dX26_holds_110 : decode cX26_holds 110 = .ok (.if_icmp .ne 19, 3) := dk_160 0 19 (dk_at dksX26_holds_4 14 rfl rfl)
theorem dX26_holds_113 : decode cX26_holds 113 = .ok (.iload_n 3, 1) := dk_29 (dk_at dksX26_holds_4 17 rfl rfl)
theorem dX26_holds_114 : decode cX26_holds 114 = .ok (.aload_n 0, 1) := dk_42 (dk_at dksX26_holds_4 18 rfl rfl)
theorem dX26_holds_115 : decode cX26_holds 115 = .ok (.getfield 18, 3) := dk_180 0 18 (dk_at dksX26_holds_4 19 rfl rfl)
theorem dX26_holds_118 : decode cX26_holds 118 = .ok (.if_icmp .ne 7, 3) := dk_160 0 7 (dk_at dksX26_holds_5 0 rfl rfl)
theorem dX26_holds_121 : decode cX26_holds 121 = .ok (.iconst 1, 1) := dk_4 (dk_at dksX26_holds_5 3 rfl rfl)
theorem dX26_holds_122 : decode cX26_holds 122 = .ok (.goto 20, 3) := dk_167 0 20 (dk_at dksX26_holds_5 4 rfl rfl)
theorem dX26_holds_125 : decode cX26_holds 125 = .ok (.iconst 0, 1) := dk_3 (dk_at dksX26_holds_5 7 rfl rfl)
theorem dX26_holds_126 : decode cX26_holds 126 = .ok (.goto 16, 3) := dk_167 0 16 (dk_at dksX26_holds_5 8 rfl rfl)
theorem dX26_holds_129 : decode cX26_holds 129 = .ok (.iload_n 3, 1) := dk_29 (dk_at dksX26_holds_5 11 rfl rfl)
theorem dX26_holds_130 : decode cX26_holds 130 = .ok (.aload_n 0, 1) := dk_42 (dk_at dksX26_holds_5 12 rfl rfl)
theorem dX26_holds_131 : decode cX26_holds 131 = .ok (.getfield 18, 3) := dk_180 0 18 (dk_at dksX26_holds_5 13 rfl rfl)
theorem dX26_holds_134 : decode cX26_holds 134 = .ok (.if_icmp .le 7, 3) := dk_164 0 7 (dk_at dksX26_holds_5 16 rfl rfl)
theorem dX26_holds_137 : decode cX26_holds 137 = .ok (.iconst 1, 1) := dk_4 (dk_at dksX26_holds_5 19 rfl rfl)
theorem dX26_holds_138 : decode cX26_holds 138 = .ok (.goto 4, 3) := dk_167 0 4 (dk_at dksX26_holds_5 20 rfl rfl)
theorem dX26_holds_141 : decode cX26_holds 141 = .ok (.iconst 0, 1) := dk_3 (dk_at dksX26_holds_5 23 rfl rfl)
theorem dX26_holds_142 : decode cX26_holds 142 = .ok (.ireturn, 1) := dk_172 (dk_at dksX26_holds_6 0 rfl rfl)
theorem fw_X26_9 : cz_FW "HeldCoats$Than" 9 [(22, 0)] "I" := ⟨"HeldCoats$Than", "what", Or.inl q1746, List.forall_mem_cons.mpr ⟨⟨RX26, TX26, 3, rfl, by decide, rfl, rfl, Or.inl rfl⟩, fun _ h => absurd h List.not_mem_nil⟩, by decide⟩
theorem fw_X26_21 : cz_FW "HeldCoats$Than" 21 [(3, 0)] "LHeldCoats$Capital;" := ⟨"HeldCoats$Reign", "c", Or.inr ⟨_, q271⟩, List.forall_mem_cons.mpr ⟨⟨RX3, TX3, 14, rfl, by decide, rfl, rfl, Or.inl rfl⟩, fun _ h => absurd h List.not_mem_nil⟩, by decide⟩
theorem fw_X26_27 : cz_FW "HeldCoats$Than" 27 [(1, 6)] "Ljava/util/ArrayList;" := ⟨"HeldCoats$Capital", "seats", Or.inr ⟨_, q219⟩, List.forall_mem_cons.mpr ⟨⟨RX2, TX2, 11, rfl, by decide, rfl, rfl, Or.inl rfl⟩, fun _ h => absurd h List.not_mem_nil⟩, by decide⟩
theorem fw_X26_41 : cz_FW "HeldCoats$Than" 41 [(10, 1)] "I" := ⟨"HeldCoats$Told", "number", Or.inr ⟨_, q940⟩, List.forall_mem_cons.mpr ⟨⟨RX10, TX10, 2, rfl, by decide, rfl, rfl, Or.inl rfl⟩, fun _ h => absurd h List.not_mem_nil⟩, by decide⟩
theorem fw_X26_15 : cz_FW "HeldCoats$Than" 15 [(22, 1)] "I" := ⟨"HeldCoats$Than", "sign", Or.inl q1747, List.forall_mem_cons.mpr ⟨⟨RX26, TX26, 3, rfl, by decide, rfl, rfl, Or.inl rfl⟩, fun _ h => absurd h List.not_mem_nil⟩, by decide⟩
theorem fw_X26_18 : cz_FW "HeldCoats$Than" 18 [(22, 2)] "I" := ⟨"HeldCoats$Than", "number", Or.inl q1748, List.forall_mem_cons.mpr ⟨⟨RX26, TX26, 3, rfl, by decide, rfl, rfl, Or.inl rfl⟩, fun _ h => absurd h List.not_mem_nil⟩, by decide⟩
theorem fw_X26_50 : cz_FW "HeldCoats$Than" 50 [(3, 7)] "[I" := ⟨"HeldCoats$Reign", "cloth", Or.inr ⟨_, q286⟩, List.forall_mem_cons.mpr ⟨⟨RX3, TX3, 14, rfl, by decide, rfl, rfl, Or.inl rfl⟩, fun _ h => absurd h List.not_mem_nil⟩, by decide⟩
theorem md_X1_lain : cz_md yX1_lain 2 (ws_ yX1_lain cX1_lain 2 ((Option.some Jvm.ClassFile.FieldType.int))) 2 := ⟨cz_ws_code q1117, q113, ⟨by decide, by decide, by decide +kernel⟩, by decide⟩
set_option maxHeartbeats 4000000 in
set_option maxRecDepth 100000 in
noncomputable def fn_X26_holds_b (l0 : Option Nat) (l1 : Option Nat) (l2 : Int32) (h : cz_H) : cz_Z := cz_getI h l0 [(22, 0)] (fun x1 => cz_jn (fun (v2 : Int32) (h3 : cz_H) => cz_getI h3 l0 [(22, 1)] (fun x4 => (if x4 = 60 then cz_getI h3 l0 [(22, 2)] (fun x8 => (if x8 ≤ v2 then some (.inl (some (cz_i 0)), h3) else some (.inl (some (cz_i 1)), h3))) else cz_getI h3 l0 [(22, 1)] (fun x5 => (if x5 = 61 then cz_getI h3 l0 [(22, 2)] (fun x7 => (if v2 = x7 then some (.inl (some (cz_i 1)), h3) else some (.inl (some (cz_i 0)), h3))) else cz_getI h3 l0 [(22, 2)] (fun x6 => (if v2 ≤ x6 then some (.inl (some (cz_i 0)), h3) else some (.inl (some (cz_i 1)), h3)))))))) (fun j9 => (if x1 = 0 then cz_getR h l1 [(3, 0)] (fun r32 => cz_getR h r32 [(1, 6)] (fun r33 => cz_rc h r33 [2] (cz_cR (fn_J2_get r33 l2 h) (fun r41 h40 => cz_cast h40 r41 [10] (cz_getI h40 r41 [(10, 1)] (fun x42 => j9 x42 h40)))))) else cz_getI h l0 [(22, 0)] (fun x10 => (if x10 = 1 then cz_cI (fn_X1_lain l1 l2 h) (fun x31 h30 => j9 x31 h30) else cz_getI h l0 [(22, 0)] (fun x11 => (if x11 = 3 then j9 l2 h else cz_rc h l1 [3] (cz_cI (fn_X3_on l1 l2 h) (fun x19 h18 => (if x19 = (-1) then j9 0 h18 else cz_getR h18 l1 [(3, 7)] (fun r20 => cz_rc h18 l1 [3] (cz_cI (fn_X3_on l1 l2 h18) (fun x28 h27 => cz_iald h27 r20 x28 (fun x29 => j9 x29 h27))))))))))))))
set_option maxHeartbeats 4000000 in
set_option maxRecDepth 100000 in
theorem wk_X26_holds {K : cz_K} {D : cz_D} {h0 : cz_H} {oh : cz_O × cz_H} {dd : Nat} {l0 : Option Nat} {l1 : Option Nat} {l2 : Int32} {h : cz_H} (hdd : 7 ≤ dd) (S : cz_S K D h0 cX26_holds 4 "HeldCoats$Than" ((Option.some Jvm.ClassFile.FieldType.boolean)) "holds" ([])) : cz_T K D (dd + 1) h0 oh 4 (fn_X26_holds_b l0 l1 l2 h) h 0 [(0, cz_r l0), (1, cz_r l1), (2, cz_i l2)] [] := by
  unfold fn_X26_holds_b
  refine ct_aload_n (k := 0) S dX26_holds_0 rfl rfl ?_
  refine ct_getI S fw_X26_9 dX26_holds_1 (fun x1 => ?_)
  refine ct_jnP (fun j9 => ∀ (v2 : Int32) (h3 : cz_H), cz_T K D (dd + 1) h0 oh 4 (j9 v2 h3) h3 78 [(0, cz_r l0)] [cz_i v2]) (fun v2 h3 => ?_) (fun j9 Hj9 => ?_)
  · refine ct_istore_n (L' := [(3, cz_i v2), (0, cz_r l0)]) S dX26_holds_78 rfl (by decide) rfl ?_
    refine ct_aload_n (k := 1) S dX26_holds_79 rfl rfl ?_
    refine ct_getI S fw_X26_15 dX26_holds_80 (fun x4 => ?_)
    refine ct_bipush (v := 60) S dX26_holds_83 kB_60 ?_
    refine ct_icmp_ne (tgt := 104) S dX26_holds_85 (by decide) ?_ ?_
    · refine ct_aload_n (k := 1) S dX26_holds_104 rfl rfl ?_
      refine ct_getI S fw_X26_15 dX26_holds_105 (fun x5 => ?_)
      refine ct_bipush (v := 61) S dX26_holds_108 kB_61 ?_
      refine ct_icmp_ne (tgt := 129) S dX26_holds_110 (by decide) ?_ ?_
      · refine ct_iload_n (k := 0) S dX26_holds_129 rfl rfl ?_
        refine ct_aload_n (k := 1) S dX26_holds_130 rfl rfl ?_
        refine ct_getI S fw_X26_18 dX26_holds_131 (fun x6 => ?_)
        refine ct_icmp_le (tgt := 141) S dX26_holds_134 (by decide) ?_ ?_
        · refine ct_iconst (v := 0) S dX26_holds_141 kI_0 ?_
          exact ct_zr (ty := .boolean) S rfl rfl dX26_holds_142
        · refine ct_iconst (v := 1) S dX26_holds_137 kI_1 ?_
          refine ct_goto (tgt := 142) S dX26_holds_138 (by decide) ?_
          exact ct_zr (ty := .boolean) S rfl rfl dX26_holds_142
      · refine ct_iload_n (k := 0) S dX26_holds_113 rfl rfl ?_
        refine ct_aload_n (k := 1) S dX26_holds_114 rfl rfl ?_
        refine ct_getI S fw_X26_18 dX26_holds_115 (fun x7 => ?_)
        refine ct_icmp_ne (tgt := 125) S dX26_holds_118 (by decide) ?_ ?_
        · refine ct_iconst (v := 0) S dX26_holds_125 kI_0 ?_
          refine ct_goto (tgt := 142) S dX26_holds_126 (by decide) ?_
          exact ct_zr (ty := .boolean) S rfl rfl dX26_holds_142
        · refine ct_iconst (v := 1) S dX26_holds_121 kI_1 ?_
          refine ct_goto (tgt := 142) S dX26_holds_122 (by decide) ?_
          exact ct_zr (ty := .boolean) S rfl rfl dX26_holds_142
    · refine ct_iload_n (k := 0) S dX26_holds_88 rfl rfl ?_
      refine ct_aload_n (k := 1) S dX26_holds_89 rfl rfl ?_
      refine ct_getI S fw_X26_18 dX26_holds_90 (fun x8 => ?_)
      refine ct_icmp_ge (tgt := 100) S dX26_holds_93 (by decide) ?_ ?_
      · refine ct_iconst (v := 0) S dX26_holds_100 kI_0 ?_
        refine ct_goto (tgt := 142) S dX26_holds_101 (by decide) ?_
        exact ct_zr (ty := .boolean) S rfl rfl dX26_holds_142
      · refine ct_iconst (v := 1) S dX26_holds_96 kI_1 ?_
        refine ct_goto (tgt := 142) S dX26_holds_97 (by decide) ?_
        exact ct_zr (ty := .boolean) S rfl rfl dX26_holds_142
  · refine ct_if_ne (tgt := 27) S dX26_holds_4 (by decide) ?_ ?_
    · refine ct_aload_n (k := 0) S dX26_holds_27 rfl rfl ?_
      refine ct_getI S fw_X26_9 dX26_holds_28 (fun x10 => ?_)
      refine ct_iconst (v := 1) S dX26_holds_31 kI_1 ?_
      refine ct_icmp_ne (tgt := 43) S dX26_holds_32 (by decide) ?_ ?_
      · refine ct_aload_n (k := 0) S dX26_holds_43 rfl rfl ?_
        refine ct_getI S fw_X26_9 dX26_holds_44 (fun x11 => ?_)
        refine ct_iconst (v := 3) S dX26_holds_47 kI_3 ?_
        refine ct_icmp_ne (tgt := 55) S dX26_holds_48 (by decide) ?_ ?_
        · refine ct_aload_n (k := 1) S dX26_holds_55 rfl rfl ?_
          refine ct_iload_n (k := 2) S dX26_holds_56 rfl rfl ?_
          refine ct_rc (fun b12 ci13 V14 hb15 hc16 hi17 => ?_)
          refine ct_cI (st := []) (cg_virtual (av := [cz_i l2]) S hb15 hc16 hi17 (fun _ e => mt_X3_on e) md_X3_on q1799 q1095 se_HeldCoats_Reign_on__I_I_HeldCoats_Reign (by omega) (Nat.le_of_ble_eq_true rfl) rfl dX26_holds_57) (fun x19 h18 => ?_)
          refine ct_iconst (v := (-1)) S dX26_holds_60 kI_m1 ?_
          refine ct_icmp_ne (tgt := 68) S dX26_holds_61 (by decide) ?_ ?_
          · refine ct_aload_n (k := 1) S dX26_holds_68 rfl rfl ?_
            refine ct_getR S fw_X26_50 dX26_holds_69 (fun r20 => ?_)
            refine ct_aload_n (k := 1) S dX26_holds_72 rfl rfl ?_
            refine ct_iload_n (k := 2) S dX26_holds_73 rfl rfl ?_
            refine ct_rc (fun b21 ci22 V23 hb24 hc25 hi26 => ?_)
            refine ct_cI (st := [cz_r r20]) (cg_virtual (av := [cz_i l2]) S hb24 hc25 hi26 (fun _ e => mt_X3_on e) md_X3_on q1799 q1095 se_HeldCoats_Reign_on__I_I_HeldCoats_Reign (by omega) (Nat.le_of_ble_eq_true rfl) rfl dX26_holds_74) (fun x28 h27 => ?_)
            refine ct_iald S dX26_holds_77 (fun x29 => ?_)
            exact ct_sub [0] rfl (Hj9 x29 h27)
          · refine ct_iconst (v := 0) S dX26_holds_64 kI_0 ?_
            refine ct_goto (tgt := 78) S dX26_holds_65 (by decide) ?_
            exact ct_sub [0] rfl (Hj9 0 h18)
        · refine ct_iload_n (k := 2) S dX26_holds_51 rfl rfl ?_
          refine ct_goto (tgt := 78) S dX26_holds_52 (by decide) ?_
          exact ct_sub [0] rfl (Hj9 l2 h)
      · refine ct_aload_n (k := 1) S dX26_holds_35 rfl rfl ?_
        refine ct_iload_n (k := 2) S dX26_holds_36 rfl rfl ?_
        refine ct_cI (st := []) (cg_static (av := [cz_r l1, cz_i l2]) S (fun _ e => mt_X1_lain e) md_X1_lain (Or.inr ⟨_, q1798⟩) q1116 (by omega) (Nat.le_of_ble_eq_true rfl) rfl dX26_holds_37) (fun x31 h30 => ?_)
        refine ct_goto (tgt := 78) S dX26_holds_40 (by decide) ?_
        exact ct_sub [0] rfl (Hj9 x31 h30)
    · refine ct_aload_n (k := 1) S dX26_holds_7 rfl rfl ?_
      refine ct_getR S fw_X26_21 dX26_holds_8 (fun r32 => ?_)
      refine ct_getR S fw_X26_27 dX26_holds_11 (fun r33 => ?_)
      refine ct_iload_n (k := 2) S dX26_holds_14 rfl rfl ?_
      refine ct_rc (fun b34 ci35 V36 hb37 hc38 hi39 => ?_)
      refine ct_cR (st := []) (cg_virtual (av := [cz_i l2]) S hb37 hc38 hi39 (fun _ e => mt_J2_get e) md_J2_get q1796 q345 se_java_util_ArrayList_get__I_Ljava_lang_Object__java_util_ArrayList (by omega) (Nat.le_of_ble_eq_true rfl) rfl dX26_holds_15) (fun r41 h40 => ?_)
      refine ct_cast S q1797 ca_HeldCoats_Told dX26_holds_18 ?_
      refine ct_getI S fw_X26_41 dX26_holds_21 (fun x42 => ?_)
      refine ct_goto (tgt := 78) S dX26_holds_24 (by decide) ?_
      exact ct_sub [0] rfl (Hj9 x42 h40)
/-! HeldCoats$Two.holds(LHeldCoats$Reign;I)Z -/
def dkwX27_holds_2 : List UInt8 := [154, 0, 15, 42, 180, 0, 13, 43, 28, 182, 0, 20, 153, 0, 7, 4, 167, 0, 4, 3, 172]
abbrev dktX27_holds_2 : List UInt8 := dkwX27_holds_2 ++ []
def dkwX27_holds_1 : List UInt8 := [28, 182, 0, 20, 153, 0, 7, 4, 167, 0, 36, 3, 167, 0, 32, 42, 180, 0, 7, 43, 28, 182, 0, 20]
abbrev dktX27_holds_1 : List UInt8 := dkwX27_holds_1 ++ dktX27_holds_2
def dkwX27_holds_0 : List UInt8 := [42, 180, 0, 16, 153, 0, 35, 42, 180, 0, 7, 43, 28, 182, 0, 20, 153, 0, 19, 42, 180, 0, 13, 43]
abbrev dktX27_holds_0 : List UInt8 := dkwX27_holds_0 ++ dktX27_holds_1
theorem dksX27_holds_0 : cX27_holds.data.toList.drop 0 = dktX27_holds_0 := by decide +kernel
theorem dksX27_holds_1 : cX27_holds.data.toList.drop 24 = dktX27_holds_1 := dk_seg dksX27_holds_0 24 rfl rfl
theorem dksX27_holds_2 : cX27_holds.data.toList.drop 48 = dktX27_holds_2 := dk_seg dksX27_holds_1 24 rfl rfl
theorem dX27_holds_0 : decode cX27_holds 0 = .ok (.aload_n 0, 1) := dk_42 (dk_at dksX27_holds_0 0 rfl rfl)
theorem dX27_holds_1 : decode cX27_holds 1 = .ok (.getfield 16, 3) := dk_180 0 16 (dk_at dksX27_holds_0 1 rfl rfl)
theorem dX27_holds_4 : decode cX27_holds 4 = .ok (.ifCond .eq 35, 3) := dk_153 0 35 (dk_at dksX27_holds_0 4 rfl rfl)
theorem dX27_holds_7 : decode cX27_holds 7 = .ok (.aload_n 0, 1) := dk_42 (dk_at dksX27_holds_0 7 rfl rfl)
theorem dX27_holds_8 : decode cX27_holds 8 = .ok (.getfield 7, 3) := dk_180 0 7 (dk_at dksX27_holds_0 8 rfl rfl)
theorem dX27_holds_11 : decode cX27_holds 11 = .ok (.aload_n 1, 1) := dk_43 (dk_at dksX27_holds_0 11 rfl rfl)
theorem dX27_holds_12 : decode cX27_holds 12 = .ok (.iload_n 2, 1) := dk_28 (dk_at dksX27_holds_0 12 rfl rfl)
theorem dX27_holds_13 : decode cX27_holds 13 = .ok (.invokevirtual 20, 3) := dk_182 0 20 (dk_at dksX27_holds_0 13 rfl rfl)
theorem dX27_holds_16 : decode cX27_holds 16 = .ok (.ifCond .eq 19, 3) := dk_153 0 19 (dk_at dksX27_holds_0 16 rfl rfl)
theorem dX27_holds_19 : decode cX27_holds 19 = .ok (.aload_n 0, 1) := dk_42 (dk_at dksX27_holds_0 19 rfl rfl)
theorem dX27_holds_20 : decode cX27_holds 20 = .ok (.getfield 13, 3) := dk_180 0 13 (dk_at dksX27_holds_0 20 rfl rfl)
theorem dX27_holds_23 : decode cX27_holds 23 = .ok (.aload_n 1, 1) := dk_43 (dk_at dksX27_holds_0 23 rfl rfl)
theorem dX27_holds_24 : decode cX27_holds 24 = .ok (.iload_n 2, 1) := dk_28 (dk_at dksX27_holds_1 0 rfl rfl)
theorem dX27_holds_25 : decode cX27_holds 25 = .ok (.invokevirtual 20, 3) := dk_182 0 20 (dk_at dksX27_holds_1 1 rfl rfl)
theorem dX27_holds_28 : decode cX27_holds 28 = .ok (.ifCond .eq 7, 3) := dk_153 0 7 (dk_at dksX27_holds_1 4 rfl rfl)
theorem dX27_holds_31 : decode cX27_holds 31 = .ok (.iconst 1, 1) := dk_4 (dk_at dksX27_holds_1 7 rfl rfl)
theorem dX27_holds_32 : decode cX27_holds 32 = .ok (.goto 36, 3) := dk_167 0 36 (dk_at dksX27_holds_1 8 rfl rfl)
theorem dX27_holds_35 : decode cX27_holds 35 = .ok (.iconst 0, 1) := dk_3 (dk_at dksX27_holds_1 11 rfl rfl)
theorem dX27_holds_36 : decode cX27_holds 36 = .ok (.goto 32, 3) := dk_167 0 32 (dk_at dksX27_holds_1 12 rfl rfl)
theorem dX27_holds_39 : decode cX27_holds 39 = .ok (.aload_n 0, 1) := dk_42 (dk_at dksX27_holds_1 15 rfl rfl)
theorem dX27_holds_40 : decode cX27_holds 40 = .ok (.getfield 7, 3) := dk_180 0 7 (dk_at dksX27_holds_1 16 rfl rfl)
theorem dX27_holds_43 : decode cX27_holds 43 = .ok (.aload_n 1, 1) := dk_43 (dk_at dksX27_holds_1 19 rfl rfl)
theorem dX27_holds_44 : decode cX27_holds 44 = .ok (.iload_n 2, 1) := dk_28 (dk_at dksX27_holds_1 20 rfl rfl)
theorem dX27_holds_45 : decode cX27_holds 45 = .ok (.invokevirtual 20, 3) := dk_182 0 20 (dk_at dksX27_holds_1 21 rfl rfl)
theorem dX27_holds_48 : decode cX27_holds 48 = .ok (.ifCond .ne 15, 3) := dk_154 0 15 (dk_at dksX27_holds_2 0 rfl rfl)
theorem dX27_holds_51 : decode cX27_holds 51 = .ok (.aload_n 0, 1) := dk_42 (dk_at dksX27_holds_2 3 rfl rfl)
theorem dX27_holds_52 : decode cX27_holds 52 = .ok (.getfield 13, 3) := dk_180 0 13 (dk_at dksX27_holds_2 4 rfl rfl)
theorem dX27_holds_55 : decode cX27_holds 55 = .ok (.aload_n 1, 1) := dk_43 (dk_at dksX27_holds_2 7 rfl rfl)
theorem dX27_holds_56 : decode cX27_holds 56 = .ok (.iload_n 2, 1) := dk_28 (dk_at dksX27_holds_2 8 rfl rfl)
theorem dX27_holds_57 : decode cX27_holds 57 = .ok (.invokevirtual 20, 3) := dk_182 0 20 (dk_at dksX27_holds_2 9 rfl rfl)
theorem dX27_holds_60 : decode cX27_holds 60 = .ok (.ifCond .eq 7, 3) := dk_153 0 7 (dk_at dksX27_holds_2 12 rfl rfl)
theorem dX27_holds_63 : decode cX27_holds 63 = .ok (.iconst 1, 1) := dk_4 (dk_at dksX27_holds_2 15 rfl rfl)
theorem dX27_holds_64 : decode cX27_holds 64 = .ok (.goto 4, 3) := dk_167 0 4 (dk_at dksX27_holds_2 16 rfl rfl)
theorem dX27_holds_67 : decode cX27_holds 67 = .ok (.iconst 0, 1) := dk_3 (dk_at dksX27_holds_2 19 rfl rfl)
theorem dX27_holds_68 : decode cX27_holds 68 = .ok (.ireturn, 1) := dk_172 (dk_at dksX27_holds_2 20 rfl rfl)
theorem fw_X27_16 : cz_FW "HeldCoats$Two" 16 [(23, 2)] "Z" := ⟨"HeldCoats$Two", "both", Or.inl q1765, List.forall_mem_cons.mpr ⟨⟨RX27, TX27, 3, rfl, by decide, rfl, rfl, Or.inl rfl⟩, fun _ h => absurd h List.not_mem_nil⟩, by decide⟩
theorem fw_X27_7 : cz_FW "HeldCoats$Two" 7 [(23, 0)] "LHeldCoats$Cond;" := ⟨"HeldCoats$Two", "a", Or.inl q1763, List.forall_mem_cons.mpr ⟨⟨RX27, TX27, 3, rfl, by decide, rfl, rfl, Or.inl rfl⟩, fun _ h => absurd h List.not_mem_nil⟩, by decide⟩
theorem fw_X27_13 : cz_FW "HeldCoats$Two" 13 [(23, 1)] "LHeldCoats$Cond;" := ⟨"HeldCoats$Two", "b", Or.inl q1764, List.forall_mem_cons.mpr ⟨⟨RX27, TX27, 3, rfl, by decide, rfl, rfl, Or.inl rfl⟩, fun _ h => absurd h List.not_mem_nil⟩, by decide⟩
set_option maxHeartbeats 4000000 in
set_option maxRecDepth 100000 in
noncomputable def fn_X27_holds_b (F : Option Nat → Option Nat → Int32 → cz_H → cz_Z) (l0 : Option Nat) (l1 : Option Nat) (l2 : Int32) (h : cz_H) : cz_Z := cz_getI h l0 [(23, 2)] (fun x1 => (if x1 = 0 then cz_getR h l0 [(23, 0)] (fun r2 => cz_cI (F r2 l1 l2 h) (fun x10 h9 => (if x10 = 0 then cz_getR h9 l0 [(23, 1)] (fun r11 => cz_cI (F r11 l1 l2 h9) (fun x19 h18 => (if x19 = 0 then some (.inl (some (cz_i 0)), h18) else some (.inl (some (cz_i 1)), h18)))) else some (.inl (some (cz_i 1)), h9)))) else cz_getR h l0 [(23, 0)] (fun r20 => cz_cI (F r20 l1 l2 h) (fun x28 h27 => (if x28 = 0 then some (.inl (some (cz_i 0)), h27) else cz_getR h27 l0 [(23, 1)] (fun r29 => cz_cI (F r29 l1 l2 h27) (fun x37 h36 => (if x37 = 0 then some (.inl (some (cz_i 0)), h36) else some (.inl (some (cz_i 1)), h36)))))))))
set_option maxHeartbeats 4000000 in
set_option maxRecDepth 100000 in
theorem wk_X27_holds {K : cz_K} {D : cz_D} {h0 : cz_H} {oh : cz_O × cz_H} {dd : Nat} {F : Option Nat → Option Nat → Int32 → cz_H → cz_Z} {l0 : Option Nat} {l1 : Option Nat} {l2 : Int32} {h : cz_H} (hdd : 7 ≤ dd) (HF : ∀ (r R : Option Nat) (s : Int32) (h : cz_H) (oh' : cz_O × cz_H), F r R s h = some oh' → cz_DM K.2.1 D ⟨"HeldCoats$Cond", "holds", "(LHeldCoats$Reign;I)Z"⟩ dd r [cz_r R, cz_i s] h oh') (S : cz_S K D h0 cX27_holds 3 "HeldCoats$Two" ((Option.some Jvm.ClassFile.FieldType.boolean)) "holds" ([])) : cz_T K D (dd + 1) h0 oh 3 (fn_X27_holds_b F l0 l1 l2 h) h 0 [(0, cz_r l0), (1, cz_r l1), (2, cz_i l2)] [] := by
  unfold fn_X27_holds_b
  refine ct_aload_n (k := 0) S dX27_holds_0 rfl rfl ?_
  refine ct_getI S fw_X27_16 dX27_holds_1 (fun x1 => ?_)
  refine ct_if_eq (tgt := 39) S dX27_holds_4 (by decide) ?_ ?_
  · refine ct_aload_n (k := 0) S dX27_holds_39 rfl rfl ?_
    refine ct_getR S fw_X27_7 dX27_holds_40 (fun r2 => ?_)
    refine ct_aload_n (k := 1) S dX27_holds_43 rfl rfl ?_
    refine ct_iload_n (k := 2) S dX27_holds_44 rfl rfl ?_
    refine ct_cI (st := []) (cg_disp (owner := "HeldCoats$Cond") (av := [cz_r l1, cz_i l2]) S (fun _ e => HF _ _ _ _ _ e) q1802 q1780 q1779 ⟨by decide, by decide⟩ nh_HeldCoats_Cond_holds__LHeldCoats_Reign_I_Z (by omega) (Nat.le_of_ble_eq_true rfl) rfl dX27_holds_45) (fun x10 h9 => ?_)
    refine ct_if_ne (tgt := 63) S dX27_holds_48 (by decide) ?_ ?_
    · refine ct_iconst (v := 1) S dX27_holds_63 kI_1 ?_
      refine ct_goto (tgt := 68) S dX27_holds_64 (by decide) ?_
      exact ct_zr (ty := .boolean) S rfl rfl dX27_holds_68
    · refine ct_aload_n (k := 0) S dX27_holds_51 rfl rfl ?_
      refine ct_getR S fw_X27_13 dX27_holds_52 (fun r11 => ?_)
      refine ct_aload_n (k := 1) S dX27_holds_55 rfl rfl ?_
      refine ct_iload_n (k := 2) S dX27_holds_56 rfl rfl ?_
      refine ct_cI (st := []) (cg_disp (owner := "HeldCoats$Cond") (av := [cz_r l1, cz_i l2]) S (fun _ e => HF _ _ _ _ _ e) q1802 q1780 q1779 ⟨by decide, by decide⟩ nh_HeldCoats_Cond_holds__LHeldCoats_Reign_I_Z (by omega) (Nat.le_of_ble_eq_true rfl) rfl dX27_holds_57) (fun x19 h18 => ?_)
      refine ct_if_eq (tgt := 67) S dX27_holds_60 (by decide) ?_ ?_
      · refine ct_iconst (v := 0) S dX27_holds_67 kI_0 ?_
        exact ct_zr (ty := .boolean) S rfl rfl dX27_holds_68
      · refine ct_iconst (v := 1) S dX27_holds_63 kI_1 ?_
        refine ct_goto (tgt := 68) S dX27_holds_64 (by decide) ?_
        exact ct_zr (ty := .boolean) S rfl rfl dX27_holds_68
  · refine ct_aload_n (k := 0) S dX27_holds_7 rfl rfl ?_
    refine ct_getR S fw_X27_7 dX27_holds_8 (fun r20 => ?_)
    refine ct_aload_n (k := 1) S dX27_holds_11 rfl rfl ?_
    refine ct_iload_n (k := 2) S dX27_holds_12 rfl rfl ?_
    refine ct_cI (st := []) (cg_disp (owner := "HeldCoats$Cond") (av := [cz_r l1, cz_i l2]) S (fun _ e => HF _ _ _ _ _ e) q1802 q1780 q1779 ⟨by decide, by decide⟩ nh_HeldCoats_Cond_holds__LHeldCoats_Reign_I_Z (by omega) (Nat.le_of_ble_eq_true rfl) rfl dX27_holds_13) (fun x28 h27 => ?_)
    refine ct_if_eq (tgt := 35) S dX27_holds_16 (by decide) ?_ ?_
    · refine ct_iconst (v := 0) S dX27_holds_35 kI_0 ?_
      refine ct_goto (tgt := 68) S dX27_holds_36 (by decide) ?_
      exact ct_zr (ty := .boolean) S rfl rfl dX27_holds_68
    · refine ct_aload_n (k := 0) S dX27_holds_19 rfl rfl ?_
      refine ct_getR S fw_X27_13 dX27_holds_20 (fun r29 => ?_)
      refine ct_aload_n (k := 1) S dX27_holds_23 rfl rfl ?_
      refine ct_iload_n (k := 2) S dX27_holds_24 rfl rfl ?_
      refine ct_cI (st := []) (cg_disp (owner := "HeldCoats$Cond") (av := [cz_r l1, cz_i l2]) S (fun _ e => HF _ _ _ _ _ e) q1802 q1780 q1779 ⟨by decide, by decide⟩ nh_HeldCoats_Cond_holds__LHeldCoats_Reign_I_Z (by omega) (Nat.le_of_ble_eq_true rfl) rfl dX27_holds_25) (fun x37 h36 => ?_)
      refine ct_if_eq (tgt := 35) S dX27_holds_28 (by decide) ?_ ?_
      · refine ct_iconst (v := 0) S dX27_holds_35 kI_0 ?_
        refine ct_goto (tgt := 68) S dX27_holds_36 (by decide) ?_
        exact ct_zr (ty := .boolean) S rfl rfl dX27_holds_68
      · refine ct_iconst (v := 1) S dX27_holds_31 kI_1 ?_
        refine ct_goto (tgt := 68) S dX27_holds_32 (by decide) ?_
        exact ct_zr (ty := .boolean) S rfl rfl dX27_holds_68
/-! #hold -/
theorem dc_holds_19 : cz_DC ⟨"HeldCoats$Cond", "holds", "(LHeldCoats$Reign;I)Z"⟩ yX23_holds 19 cX23_holds 3 ((Option.some Jvm.ClassFile.FieldType.boolean)) := ⟨⟨_, cz_cl19, q1786⟩, q1788, q1787, q154, by decide⟩
theorem dc_holds_20 : cz_DC ⟨"HeldCoats$Cond", "holds", "(LHeldCoats$Reign;I)Z"⟩ yX24_holds 20 cX24_holds 3 ((Option.some Jvm.ClassFile.FieldType.boolean)) := ⟨⟨_, cz_cl20, q1781⟩, q1783, q1782, q155, by decide⟩
theorem dc_holds_21 : cz_DC ⟨"HeldCoats$Cond", "holds", "(LHeldCoats$Reign;I)Z"⟩ yX25_holds 21 cX25_holds 3 ((Option.some Jvm.ClassFile.FieldType.boolean)) := ⟨⟨_, cz_cl21, q1803⟩, q1791, q1790, q156, by decide⟩
theorem dc_holds_22 : cz_DC ⟨"HeldCoats$Cond", "holds", "(LHeldCoats$Reign;I)Z"⟩ yX26_holds 22 cX26_holds 4 ((Option.some Jvm.ClassFile.FieldType.boolean)) := ⟨⟨_, cz_cl22, q1804⟩, q1795, q1794, q157, by decide⟩
theorem dc_holds_23 : cz_DC ⟨"HeldCoats$Cond", "holds", "(LHeldCoats$Reign;I)Z"⟩ yX27_holds 23 cX27_holds 3 ((Option.some Jvm.ClassFile.FieldType.boolean)) := ⟨⟨_, cz_cl23, q1805⟩, q1801, q1800, q158, by decide⟩
noncomputable def fn_hold : Nat → Option Nat → Option Nat → Int32 → cz_H → cz_Z
  | 0, _, _, _, _ => none
  | n + 1, r, R, s, h => cz_by h r (fun ci => if ci = 19 then fn_X23_holds_b (fn_hold n) r R s h else if ci = 20 then fn_X24_holds_b r R s h else if ci = 21 then fn_X25_holds_b r R s h else if ci = 22 then fn_X26_holds_b r R s h else if ci = 23 then fn_X27_holds_b (fn_hold n) r R s h else none)
set_option maxHeartbeats 4000000 in
set_option maxRecDepth 100000 in
theorem mt_hold {l : Launch} {D : cz_D} : ∀ (n : Nat) (r R : Option Nat) (s : Int32) (h : cz_H) (oh : cz_O × cz_H), fn_hold n r R s h = some oh → cz_DM l D ⟨"HeldCoats$Cond", "holds", "(LHeldCoats$Reign;I)Z"⟩ (7 + n) r [cz_r R, cz_i s] h oh := by
  intro n
  induction n with
  | zero => intro r R s h oh hz; cases hz
  | succ n ih =>
    intro r R s h oh hz
    rw [fn_hold] at hz
    obtain ⟨b, ci, V, hr, hc, hz⟩ := cz_byI hz
    split at hz
    · rename_i e9
      subst e9
      exact ⟨b, 19, V, _, _, _, _, hr, hc, dc_holds_19, cz_met (plainFor_of_name (by decide)) (Nat.le_of_ble_eq_true rfl) hz (fun K hl S => wk_X23_holds (Nat.le_add_right _ _) (by rw [hl]; exact ih) S)⟩
    split at hz
    · rename_i e9
      subst e9
      exact ⟨b, 20, V, _, _, _, _, hr, hc, dc_holds_20, cz_met (plainFor_of_name (by decide)) (Nat.le_of_ble_eq_true rfl) hz (fun K hl S => wk_X24_holds (Nat.le_add_right _ _) S)⟩
    split at hz
    · rename_i e9
      subst e9
      exact ⟨b, 21, V, _, _, _, _, hr, hc, dc_holds_21, cz_met (plainFor_of_name (by decide)) (Nat.le_of_ble_eq_true rfl) hz (fun K hl S => wk_X25_holds (Nat.le_add_right _ _) S)⟩
    split at hz
    · rename_i e9
      subst e9
      exact ⟨b, 22, V, _, _, _, _, hr, hc, dc_holds_22, cz_met (plainFor_of_name (by decide)) (Nat.le_of_ble_eq_true rfl) hz (fun K hl S => wk_X26_holds (Nat.le_add_right _ _) S)⟩
    split at hz
    · rename_i e9
      subst e9
      exact ⟨b, 23, V, _, _, _, _, hr, hc, dc_holds_23, cz_met (plainFor_of_name (by decide)) (Nat.le_of_ble_eq_true rfl) hz (fun K hl S => wk_X27_holds (Nat.le_add_right _ _) (by rw [hl]; exact ih) S)⟩
    cases hz
noncomputable def fn_disp_holds (r R : Option Nat) (s : Int32) (h : cz_H) : cz_Z := fn_hold 64 r R s h
set_option maxHeartbeats 4000000 in
set_option maxRecDepth 100000 in
theorem mt_disp_holds {l : Launch} {D : cz_D} {r R : Option Nat} {s : Int32} {h : cz_H} {oh : cz_O × cz_H} (hz : fn_disp_holds r R s h = some oh) : cz_DM l D ⟨"HeldCoats$Cond", "holds", "(LHeldCoats$Reign;I)Z"⟩ 71 r [cz_r R, cz_i s] h oh := mt_hold 64 r R s h oh hz
/-! HeldCoats.said(I)I -/
def dkwX1_said_2 : List UInt8 := [132, 2, 1, 132, 3, 1, 167, 255, 217, 27, 2, 160, 0, 7, 28, 167, 0, 4, 2, 172]
abbrev dktX1_said_2 : List UInt8 := dkwX1_said_2 ++ []
def dkwX1_said_1 : List UInt8 := [180, 0, 101, 42, 180, 0, 42, 29, 182, 1, 100, 154, 0, 6, 167, 0, 13, 28, 27, 160, 0, 5, 29, 172]
abbrev dktX1_said_1 : List UInt8 := dkwX1_said_1 ++ dktX1_said_2
def dkwX1_said_0 : List UInt8 := [42, 180, 0, 101, 199, 0, 5, 2, 172, 3, 61, 3, 62, 29, 42, 182, 1, 14, 162, 0, 37, 42]
abbrev dktX1_said_0 : List UInt8 := dkwX1_said_0 ++ dktX1_said_1
theorem dksX1_said_0 : cX1_said.data.toList.drop 0 = dktX1_said_0 := by decide +kernel
theorem dksX1_said_1 : cX1_said.data.toList.drop 22 = dktX1_said_1 := dk_seg dksX1_said_0 22 rfl rfl
theorem dksX1_said_2 : cX1_said.data.toList.drop 46 = dktX1_said_2 := dk_seg dksX1_said_1 24 rfl rfl
theorem dX1_said_0 : decode cX1_said 0 = .ok (.aload_n 0, 1) := dk_42 (dk_at dksX1_said_0 0 rfl rfl)
theorem dX1_said_1 : decode cX1_said 1 = .ok (.getfield 101, 3) := dk_180 0 101 (dk_at dksX1_said_0 1 rfl rfl)
theorem dX1_said_4 : decode cX1_said 4 = .ok (.ifnonnull 5, 3) := dk_199 0 5 (dk_at dksX1_said_0 4 rfl rfl)
theorem dX1_said_7 : decode cX1_said 7 = .ok (.iconst (-1), 1) := dk_2 (dk_at dksX1_said_0 7 rfl rfl)
theorem dX1_said_8 : decode cX1_said 8 = .ok (.ireturn, 1) := dk_172 (dk_at dksX1_said_0 8 rfl rfl)
theorem dX1_said_9 : decode cX1_said 9 = .ok (.iconst 0, 1) := dk_3 (dk_at dksX1_said_0 9 rfl rfl)
theorem dX1_said_10 : decode cX1_said 10 = .ok (.istore_n 2, 1) := dk_61 (dk_at dksX1_said_0 10 rfl rfl)
theorem dX1_said_11 : decode cX1_said 11 = .ok (.iconst 0, 1) := dk_3 (dk_at dksX1_said_0 11 rfl rfl)
theorem dX1_said_12 : decode cX1_said 12 = .ok (.istore_n 3, 1) := dk_62 (dk_at dksX1_said_0 12 rfl rfl)
theorem dX1_said_13 : decode cX1_said 13 = .ok (.iload_n 3, 1) := dk_29 (dk_at dksX1_said_0 13 rfl rfl)
theorem dX1_said_14 : decode cX1_said 14 = .ok (.aload_n 0, 1) := dk_42 (dk_at dksX1_said_0 14 rfl rfl)
theorem dX1_said_15 : decode cX1_said 15 = .ok (.invokevirtual 270, 3) := dk_182 1 14 (dk_at dksX1_said_0 15 rfl rfl)
theorem dX1_said_18 : decode cX1_said 18 = .ok (.if_icmp .ge 37, 3) := dk_162 0 37 (dk_at dksX1_said_0 18 rfl rfl)
theorem dX1_said_21 : decode cX1_said 21 = .ok (.aload_n 0, 1) := dk_42 (dk_at dksX1_said_0 21 rfl rfl)
theorem dX1_said_22 : decode cX1_said 22 = .ok (.getfield 101, 3) := dk_180 0 101 (dk_at dksX1_said_1 0 rfl rfl)
theorem dX1_said_25 : decode cX1_said 25 = .ok (.aload_n 0, 1) := dk_42 (dk_at dksX1_said_1 3 rfl rfl)
theorem dX1_said_26 : decode cX1_said 26 = .ok (.getfield 42, 3) := dk_180 0 42 (dk_at dksX1_said_1 4 rfl rfl)
theorem dX1_said_29 : decode cX1_said 29 = .ok (.iload_n 3, 1) := dk_29 (dk_at dksX1_said_1 7 rfl rfl)
theorem dX1_said_30 : decode cX1_said 30 = .ok (.invokevirtual 356, 3) := dk_182 1 100 (dk_at dksX1_said_1 8 rfl rfl)
theorem dX1_said_33 : decode cX1_said 33 = .ok (.ifCond .ne 6, 3) := dk_154 0 6 (dk_at dksX1_said_1 11 rfl rfl)
theorem dX1_said_36 : decode cX1_said 36 = .ok (.goto 13, 3) := dk_167 0 13 (dk_at dksX1_said_1 14 rfl rfl)
theorem dX1_said_39 : decode cX1_said 39 = .ok (.iload_n 2, 1) := dk_28 (dk_at dksX1_said_1 17 rfl rfl)
theorem dX1_said_40 : decode cX1_said 40 = .ok (.iload_n 1, 1) := dk_27 (dk_at dksX1_said_1 18 rfl rfl)
theorem dX1_said_41 : decode cX1_said 41 = .ok (.if_icmp .ne 5, 3) := dk_160 0 5 (dk_at dksX1_said_1 19 rfl rfl)
theorem dX1_said_44 : decode cX1_said 44 = .ok (.iload_n 3, 1) := dk_29 (dk_at dksX1_said_1 22 rfl rfl)
theorem dX1_said_45 : decode cX1_said 45 = .ok (.ireturn, 1) := dk_172 (dk_at dksX1_said_1 23 rfl rfl)
theorem dX1_said_46 : decode cX1_said 46 = .ok (.iinc 2 1, 3) := dk_132 2 1 (dk_at dksX1_said_2 0 rfl rfl)
theorem dX1_said_49 : decode cX1_said 49 = .ok (.iinc 3 1, 3) := dk_132 3 1 (dk_at dksX1_said_2 3 rfl rfl)
theorem dX1_said_52 : decode cX1_said 52 = .ok (.goto (-39), 3) := dk_167 255 217 (dk_at dksX1_said_2 6 rfl rfl)
theorem dX1_said_55 : decode cX1_said 55 = .ok (.iload_n 1, 1) := dk_27 (dk_at dksX1_said_2 9 rfl rfl)
theorem dX1_said_56 : decode cX1_said 56 = .ok (.iconst (-1), 1) := dk_2 (dk_at dksX1_said_2 10 rfl rfl)
theorem dX1_said_57 : decode cX1_said 57 = .ok (.if_icmp .ne 7, 3) := dk_160 0 7 (dk_at dksX1_said_2 11 rfl rfl)
theorem dX1_said_60 : decode cX1_said 60 = .ok (.iload_n 2, 1) := dk_28 (dk_at dksX1_said_2 14 rfl rfl)
theorem dX1_said_61 : decode cX1_said 61 = .ok (.goto 4, 3) := dk_167 0 4 (dk_at dksX1_said_2 15 rfl rfl)
theorem dX1_said_64 : decode cX1_said 64 = .ok (.iconst (-1), 1) := dk_2 (dk_at dksX1_said_2 18 rfl rfl)
theorem dX1_said_65 : decode cX1_said 65 = .ok (.ireturn, 1) := dk_172 (dk_at dksX1_said_2 19 rfl rfl)
set_option maxHeartbeats 4000000 in
set_option maxRecDepth 100000 in
noncomputable def fn_X1_said_13 (l0 : Option Nat) (l1 : Int32) (k0 : Int32 → cz_H → cz_Z) (k1 : Int32 → cz_H → cz_Z) : Nat → Int32 → Int32 → cz_H → cz_Z
  | 0, _, _, _ => none
  | n + 1, l2, l3, h => cz_rc h l0 [0] (cz_cI (fn_X1_seats l0 h) (fun x9 h8 => (if x9 ≤ l3 then k1 l2 h8 else cz_getR h8 l0 [(0, 6)] (fun r10 => cz_getR h8 l0 [(0, 4)] (fun r11 => cz_cI (fn_disp_holds r10 r11 l3 h8) (fun x19 h18 => (if x19 = 0 then cz_leti (l3 + 1) (fun x22 => fn_X1_said_13 l0 l1 k0 k1 n l2 x22 h18) else (if l2 = l1 then k0 l3 h18 else cz_leti (l2 + 1) (fun x20 => cz_leti (l3 + 1) (fun x21 => fn_X1_said_13 l0 l1 k0 k1 n x20 x21 h18))))))))))
set_option maxHeartbeats 4000000 in
set_option maxRecDepth 100000 in
theorem wk_X1_said_13 {K : cz_K} {D : cz_D} {h0 : cz_H} {oh : cz_O × cz_H} {l0 : Option Nat} {l1 : Int32} {k0 : Int32 → cz_H → cz_Z} {k1 : Int32 → cz_H → cz_Z} (S : cz_S K D h0 cX1_said 4 "HeldCoats" ((Option.some Jvm.ClassFile.FieldType.int)) "said" ([])) (hk0 : ∀ (e3 : Int32) (h : cz_H), cz_T K D 72 h0 oh 4 (k0 e3 h) h 44 [(3, cz_i e3)] []) (hk1 : ∀ (e2 : Int32) (h : cz_H), cz_T K D 72 h0 oh 4 (k1 e2 h) h 55 [(1, cz_i l1), (2, cz_i e2)] []) : ∀ (n : Nat) (l2 : Int32) (l3 : Int32) (h : cz_H), cz_T K D 72 h0 oh 4 (fn_X1_said_13 l0 l1 k0 k1 n l2 l3 h) h 13 [(0, cz_r l0), (1, cz_i l1), (2, cz_i l2), (3, cz_i l3)] [] := by
  intro n
  induction n with
  | zero => intros; exact ct_none
  | succ n ih =>
    intro l2 l3 h
    rw [fn_X1_said_13]
    refine ct_iload_n (k := 3) S dX1_said_13 rfl rfl ?_
    refine ct_aload_n (k := 0) S dX1_said_14 rfl rfl ?_
    refine ct_rc (fun b2 ci3 V4 hb5 hc6 hi7 => ?_)
    refine ct_cI (st := [cz_i l3]) (cg_virtual (av := []) S hb5 hc6 hi7 (fun _ e => mt_X1_seats e) md_X1_seats q1385 q1387 se_HeldCoats_seats___I_HeldCoats (by decide) (Nat.le_of_ble_eq_true rfl) rfl dX1_said_15) (fun x9 h8 => ?_)
    refine ct_icmp_ge (tgt := 55) S dX1_said_18 (by decide) ?_ ?_
    · exact ct_sub [1, 2] rfl (hk1 l2 h8)
    · refine ct_aload_n (k := 0) S dX1_said_21 rfl rfl ?_
      refine ct_getR S fw_X1_101 dX1_said_22 (fun r10 => ?_)
      refine ct_aload_n (k := 0) S dX1_said_25 rfl rfl ?_
      refine ct_getR S fw_X1_42 dX1_said_26 (fun r11 => ?_)
      refine ct_iload_n (k := 3) S dX1_said_29 rfl rfl ?_
      refine ct_cI (st := []) (cg_disp (owner := "HeldCoats$Cond") (av := [cz_r r11, cz_i l3]) S (fun _ e => mt_disp_holds e) q1778 q1780 q1779 ⟨by decide, by decide⟩ nh_HeldCoats_Cond_holds__LHeldCoats_Reign_I_Z (by decide) (Nat.le_of_ble_eq_true rfl) rfl dX1_said_30) (fun x19 h18 => ?_)
      refine ct_if_ne (tgt := 39) S dX1_said_33 (by decide) ?_ ?_
      · refine ct_iload_n (k := 2) S dX1_said_39 rfl rfl ?_
        refine ct_iload_n (k := 1) S dX1_said_40 rfl rfl ?_
        refine ct_icmp_ne (tgt := 46) S dX1_said_41 (by decide) ?_ ?_
        · refine ct_iincL (j := 2) (L2 := fun x20 => [(2, cz_i x20), (0, cz_r l0), (1, cz_i l1), (3, cz_i l3)]) S dX1_said_46 rfl kI_1 (by decide) (fun _ => rfl) (fun x20 => ?_)
          refine ct_iincL (j := 3) (L2 := fun x21 => [(3, cz_i x21), (2, cz_i x20), (0, cz_r l0), (1, cz_i l1)]) S dX1_said_49 rfl kI_1 (by decide) (fun _ => rfl) (fun x21 => ?_)
          refine ct_goto (tgt := 13) S dX1_said_52 (by decide) ?_
          exact ct_sub [2, 3, 1, 0] rfl (ih x20 x21 h18)
        · exact ct_sub [3] rfl (hk0 l3 h18)
      · refine ct_goto (tgt := 49) S dX1_said_36 (by decide) ?_
        refine ct_iincL (j := 3) (L2 := fun x22 => [(3, cz_i x22), (0, cz_r l0), (1, cz_i l1), (2, cz_i l2)]) S dX1_said_49 rfl kI_1 (by decide) (fun _ => rfl) (fun x22 => ?_)
        refine ct_goto (tgt := 13) S dX1_said_52 (by decide) ?_
        exact ct_sub [1, 2, 3, 0] rfl (ih l2 x22 h18)
set_option maxHeartbeats 4000000 in
set_option maxRecDepth 100000 in
noncomputable def fn_X1_said (l0 : Option Nat) (l1 : Int32) (h : cz_H) : cz_Z := cz_getR h l0 [(0, 6)] (fun r1 => (if r1 = none then some (.inl (some (cz_i (-1))), h) else fn_X1_said_13 l0 l1 (fun (e23 : Int32) (h24 : cz_H) => some (.inl (some (cz_i e23)), h24)) (fun (e25 : Int32) (h26 : cz_H) => (if l1 = (-1) then some (.inl (some (cz_i e25)), h26) else some (.inl (some (cz_i (-1))), h26))) 1000 0 0 h))
set_option maxHeartbeats 4000000 in
set_option maxRecDepth 100000 in
theorem wk_X1_said {K : cz_K} {D : cz_D} {h0 : cz_H} {oh : cz_O × cz_H} {l0 : Option Nat} {l1 : Int32} {h : cz_H} (S : cz_S K D h0 cX1_said 4 "HeldCoats" ((Option.some Jvm.ClassFile.FieldType.int)) "said" ([])) : cz_T K D 72 h0 oh 4 (fn_X1_said l0 l1 h) h 0 [(0, cz_r l0), (1, cz_i l1)] [] := by
  unfold fn_X1_said
  refine ct_aload_n (k := 0) S dX1_said_0 rfl rfl ?_
  refine ct_getR S fw_X1_101 dX1_said_1 (fun r1 => ?_)
  refine ct_ifnonnull (tgt := 9) S dX1_said_4 (by decide) ?_ ?_
  · refine ct_iconst (v := 0) S dX1_said_9 kI_0 ?_
    refine ct_istore_n (L' := [(2, cz_i 0), (0, cz_r l0), (1, cz_i l1)]) S dX1_said_10 rfl (by decide) rfl ?_
    refine ct_iconst (v := 0) S dX1_said_11 kI_0 ?_
    refine ct_istore_n (L' := [(3, cz_i 0), (2, cz_i 0), (0, cz_r l0), (1, cz_i l1)]) S dX1_said_12 rfl (by decide) rfl ?_
    refine ct_sub [2, 3, 1, 0] (L' := [(0, cz_r l0), (1, cz_i l1), (2, cz_i 0), (3, cz_i 0)]) rfl (wk_X1_said_13 S ?_ ?_ 1000 0 0 h)
    · intro e23 h24
      refine ct_iload_n (k := 0) S dX1_said_44 rfl rfl ?_
      exact ct_iret S rfl dX1_said_45
    · intro e25 h26
      refine ct_iload_n (k := 0) S dX1_said_55 rfl rfl ?_
      refine ct_iconst (v := (-1)) S dX1_said_56 kI_m1 ?_
      refine ct_icmp_ne (tgt := 64) S dX1_said_57 (by decide) ?_ ?_
      · refine ct_iconst (v := (-1)) S dX1_said_64 kI_m1 ?_
        exact ct_iret S rfl dX1_said_65
      · refine ct_iload_n (k := 1) S dX1_said_60 rfl rfl ?_
        refine ct_goto (tgt := 65) S dX1_said_61 (by decide) ?_
        exact ct_iret S rfl dX1_said_65
  · refine ct_iconst (v := (-1)) S dX1_said_7 kI_m1 ?_
    exact ct_iret S rfl dX1_said_8
theorem mt_X1_said {l : Launch} {D : cz_D} {l0 : Option Nat} {l1 : Int32} {h : cz_H} {oh : cz_O × cz_H} (hz : fn_X1_said l0 l1 h = some oh) : cz_M l D yX1_said (ws_ yX1_said cX1_said 4 ((Option.some Jvm.ClassFile.FieldType.int))) 72 [cz_r l0, cz_i l1] h oh := cz_met (plainFor_of_name (by decide)) (Nat.le_of_ble_eq_true rfl) hz (fun K hl S => wk_X1_said S)
/-! HeldCoats.seat(II)I -/
def dkwX1_seat_3 : List UInt8 := [182, 0, 7, 172, 42, 180, 0, 42, 27, 182, 0, 155, 172, 42, 180, 0, 42, 27, 184, 0, 158, 172, 2, 172]
abbrev dktX1_seat_3 : List UInt8 := dkwX1_seat_3 ++ []
def dkwX1_seat_2 : List UInt8 := [42, 180, 0, 33, 180, 0, 130, 27, 182, 0, 146, 192, 0, 150, 180, 0, 152, 172, 42, 180, 0, 42, 27]
abbrev dktX1_seat_2 : List UInt8 := dkwX1_seat_2 ++ dktX1_seat_3
def dkwX1_seat_1 : List UInt8 := [170, 0, 0, 0, 74, 0, 0, 0, 0, 0, 0, 0, 3, 0, 0, 0, 29, 0, 0, 0, 47, 0, 0, 0, 56, 0, 0, 0, 65]
abbrev dktX1_seat_1 : List UInt8 := dkwX1_seat_1 ++ dktX1_seat_2
def dkwX1_seat_0 : List UInt8 := [42, 27, 182, 0, 145, 154, 0, 5, 2, 172, 28]
abbrev dktX1_seat_0 : List UInt8 := dkwX1_seat_0 ++ dktX1_seat_1
theorem dksX1_seat_0 : cX1_seat.data.toList.drop 0 = dktX1_seat_0 := by decide +kernel
theorem dksX1_seat_1 : cX1_seat.data.toList.drop 11 = dktX1_seat_1 := dk_seg dksX1_seat_0 11 rfl rfl
theorem dksX1_seat_2 : cX1_seat.data.toList.drop 40 = dktX1_seat_2 := dk_seg dksX1_seat_1 29 rfl rfl
theorem dksX1_seat_3 : cX1_seat.data.toList.drop 63 = dktX1_seat_3 := dk_seg dksX1_seat_2 23 rfl rfl
theorem dX1_seat_0 : decode cX1_seat 0 = .ok (.aload_n 0, 1) := dk_42 (dk_at dksX1_seat_0 0 rfl rfl)
theorem dX1_seat_1 : decode cX1_seat 1 = .ok (.iload_n 1, 1) := dk_27 (dk_at dksX1_seat_0 1 rfl rfl)
theorem dX1_seat_2 : decode cX1_seat 2 = .ok (.invokevirtual 145, 3) := dk_182 0 145 (dk_at dksX1_seat_0 2 rfl rfl)
theorem dX1_seat_5 : decode cX1_seat 5 = .ok (.ifCond .ne 5, 3) := dk_154 0 5 (dk_at dksX1_seat_0 5 rfl rfl)
theorem dX1_seat_8 : decode cX1_seat 8 = .ok (.iconst (-1), 1) := dk_2 (dk_at dksX1_seat_0 8 rfl rfl)
theorem dX1_seat_9 : decode cX1_seat 9 = .ok (.ireturn, 1) := dk_172 (dk_at dksX1_seat_0 9 rfl rfl)
theorem dX1_seat_10 : decode cX1_seat 10 = .ok (.iload_n 2, 1) := dk_28 (dk_at dksX1_seat_0 10 rfl rfl)
theorem dX1_seat_11 : decode cX1_seat 11 = .ok (.tableswitch 74 0 3 #[29, 47, 56, 65], 29) := by decide +kernel
theorem dX1_seat_40 : decode cX1_seat 40 = .ok (.aload_n 0, 1) := dk_42 (dk_at dksX1_seat_2 0 rfl rfl)
theorem dX1_seat_41 : decode cX1_seat 41 = .ok (.getfield 33, 3) := dk_180 0 33 (dk_at dksX1_seat_2 1 rfl rfl)
theorem dX1_seat_44 : decode cX1_seat 44 = .ok (.getfield 130, 3) := dk_180 0 130 (dk_at dksX1_seat_2 4 rfl rfl)
theorem dX1_seat_47 : decode cX1_seat 47 = .ok (.iload_n 1, 1) := dk_27 (dk_at dksX1_seat_2 7 rfl rfl)
theorem dX1_seat_48 : decode cX1_seat 48 = .ok (.invokevirtual 146, 3) := dk_182 0 146 (dk_at dksX1_seat_2 8 rfl rfl)
theorem dX1_seat_51 : decode cX1_seat 51 = .ok (.checkcast 150, 3) := dk_192 0 150 (dk_at dksX1_seat_2 11 rfl rfl)
theorem dX1_seat_54 : decode cX1_seat 54 = .ok (.getfield 152, 3) := dk_180 0 152 (dk_at dksX1_seat_2 14 rfl rfl)
theorem dX1_seat_57 : decode cX1_seat 57 = .ok (.ireturn, 1) := dk_172 (dk_at dksX1_seat_2 17 rfl rfl)
theorem dX1_seat_58 : decode cX1_seat 58 = .ok (.aload_n 0, 1) := dk_42 (dk_at dksX1_seat_2 18 rfl rfl)
theorem dX1_seat_59 : decode cX1_seat 59 = .ok (.getfield 42, 3) := dk_180 0 42 (dk_at dksX1_seat_2 19 rfl rfl)
theorem dX1_seat_62 : decode cX1_seat 62 = .ok (.iload_n 1, 1) := dk_27 (dk_at dksX1_seat_2 22 rfl rfl)
theorem dX1_seat_63 : decode cX1_seat 63 = .ok (.invokevirtual 7, 3) := dk_182 0 7 (dk_at dksX1_seat_3 0 rfl rfl)
theorem dX1_seat_66 : decode cX1_seat 66 = .ok (.ireturn, 1) := dk_172 (dk_at dksX1_seat_3 3 rfl rfl)
theorem dX1_seat_67 : decode cX1_seat 67 = .ok (.aload_n 0, 1) := dk_42 (dk_at dksX1_seat_3 4 rfl rfl)
theorem dX1_seat_68 : decode cX1_seat 68 = .ok (.getfield 42, 3) := dk_180 0 42 (dk_at dksX1_seat_3 5 rfl rfl)
theorem dX1_seat_71 : decode cX1_seat 71 = .ok (.iload_n 1, 1) := dk_27 (dk_at dksX1_seat_3 8 rfl rfl)
theorem dX1_seat_72 : decode cX1_seat 72 = .ok (.invokevirtual 155, 3) := dk_182 0 155 (dk_at dksX1_seat_3 9 rfl rfl)
theorem dX1_seat_75 : decode cX1_seat 75 = .ok (.ireturn, 1) := dk_172 (dk_at dksX1_seat_3 12 rfl rfl)
theorem dX1_seat_76 : decode cX1_seat 76 = .ok (.aload_n 0, 1) := dk_42 (dk_at dksX1_seat_3 13 rfl rfl)
theorem dX1_seat_77 : decode cX1_seat 77 = .ok (.getfield 42, 3) := dk_180 0 42 (dk_at dksX1_seat_3 14 rfl rfl)
theorem dX1_seat_80 : decode cX1_seat 80 = .ok (.iload_n 1, 1) := dk_27 (dk_at dksX1_seat_3 17 rfl rfl)
theorem dX1_seat_81 : decode cX1_seat 81 = .ok (.invokestatic 158, 3) := dk_184 0 158 (dk_at dksX1_seat_3 18 rfl rfl)
theorem dX1_seat_84 : decode cX1_seat 84 = .ok (.ireturn, 1) := dk_172 (dk_at dksX1_seat_3 21 rfl rfl)
theorem dX1_seat_85 : decode cX1_seat 85 = .ok (.iconst (-1), 1) := dk_2 (dk_at dksX1_seat_3 22 rfl rfl)
theorem dX1_seat_86 : decode cX1_seat 86 = .ok (.ireturn, 1) := dk_172 (dk_at dksX1_seat_3 23 rfl rfl)
set_option maxHeartbeats 4000000 in
set_option maxRecDepth 100000 in
noncomputable def fn_X1_seat (l0 : Option Nat) (l1 : Int32) (l2 : Int32) (h : cz_H) : cz_Z := cz_rc h l0 [0] (cz_cI (fn_X1_isSeat l0 l1 h) (fun x8 h7 => (if x8 = 0 then some (.inl (some (cz_i (-1))), h7) else (if l2 = 0 then cz_getR h7 l0 [(0, 3)] (fun r30 => cz_getR h7 r30 [(1, 6)] (fun r31 => cz_rc h7 r31 [2] (cz_cR (fn_J2_get r31 l1 h7) (fun r39 h38 => cz_cast h38 r39 [10] (cz_getI h38 r39 [(10, 1)] (fun x40 => some (.inl (some (cz_i x40)), h38))))))) else if l2 = 1 then cz_getR h7 l0 [(0, 4)] (fun r21 => cz_rc h7 r21 [3] (cz_cI (fn_X3_on r21 l1 h7) (fun x29 h28 => some (.inl (some (cz_i x29)), h28)))) else if l2 = 2 then cz_getR h7 l0 [(0, 4)] (fun r12 => cz_rc h7 r12 [3] (cz_cI (fn_X3_holder r12 l1 h7) (fun x20 h19 => some (.inl (some (cz_i x20)), h19)))) else if l2 = 3 then cz_getR h7 l0 [(0, 4)] (fun r9 => cz_cI (fn_X1_lain r9 l1 h7) (fun x11 h10 => some (.inl (some (cz_i x11)), h10))) else some (.inl (some (cz_i (-1))), h7)))))
set_option maxHeartbeats 4000000 in
set_option maxRecDepth 100000 in
theorem wk_X1_seat {K : cz_K} {D : cz_D} {h0 : cz_H} {oh : cz_O × cz_H} {l0 : Option Nat} {l1 : Int32} {l2 : Int32} {h : cz_H} (S : cz_S K D h0 cX1_seat 3 "HeldCoats" ((Option.some Jvm.ClassFile.FieldType.int)) "seat" ([])) : cz_T K D 7 h0 oh 3 (fn_X1_seat l0 l1 l2 h) h 0 [(0, cz_r l0), (1, cz_i l1), (2, cz_i l2)] [] := by
  unfold fn_X1_seat
  refine ct_aload_n (k := 0) S dX1_seat_0 rfl rfl ?_
  refine ct_iload_n (k := 1) S dX1_seat_1 rfl rfl ?_
  refine ct_rc (fun b1 ci2 V3 hb4 hc5 hi6 => ?_)
  refine ct_cI (st := []) (cg_virtual (av := [cz_i l1]) S hb4 hc5 hi6 (fun _ e => mt_X1_isSeat e) md_X1_isSeat q1082 q1084 se_HeldCoats_isSeat__I_Z_HeldCoats (by decide) (Nat.le_of_ble_eq_true rfl) rfl dX1_seat_2) (fun x8 h7 => ?_)
  refine ct_if_ne (tgt := 10) S dX1_seat_5 (by decide) ?_ ?_
  · refine ct_iload_n (k := 2) S dX1_seat_10 rfl rfl ?_
    refine ct_case ?_ (fun c0_ => ?_)
    · refine ct_tableIn (tgt := 40) S dX1_seat_11 (by decide) (by decide) rfl (by decide) ?_
      refine ct_aload_n (k := 0) S dX1_seat_40 rfl rfl ?_
      refine ct_getR S fw_X1_33 dX1_seat_41 (fun r30 => ?_)
      refine ct_getR S fw_X1_130 dX1_seat_44 (fun r31 => ?_)
      refine ct_iload_n (k := 1) S dX1_seat_47 rfl rfl ?_
      refine ct_rc (fun b32 ci33 V34 hb35 hc36 hi37 => ?_)
      refine ct_cR (st := []) (cg_virtual (av := [cz_i l1]) S hb35 hc36 hi37 (fun _ e => mt_J2_get e) md_J2_get q1092 q345 se_java_util_ArrayList_get__I_Ljava_lang_Object__java_util_ArrayList (by decide) (Nat.le_of_ble_eq_true rfl) rfl dX1_seat_48) (fun r39 h38 => ?_)
      refine ct_cast S q1093 ca_HeldCoats_Told dX1_seat_51 ?_
      refine ct_getI S fw_X1_152 dX1_seat_54 (fun x40 => ?_)
      exact ct_iret S rfl dX1_seat_57
    · refine ct_case ?_ (fun c1_ => ?_)
      · refine ct_tableIn (tgt := 58) S dX1_seat_11 (by decide) (by decide) rfl (by decide) ?_
        refine ct_aload_n (k := 0) S dX1_seat_58 rfl rfl ?_
        refine ct_getR S fw_X1_42 dX1_seat_59 (fun r21 => ?_)
        refine ct_iload_n (k := 1) S dX1_seat_62 rfl rfl ?_
        refine ct_rc (fun b22 ci23 V24 hb25 hc26 hi27 => ?_)
        refine ct_cI (st := []) (cg_virtual (av := [cz_i l1]) S hb25 hc26 hi27 (fun _ e => mt_X3_on e) md_X3_on q1094 q1095 se_HeldCoats_Reign_on__I_I_HeldCoats_Reign (by decide) (Nat.le_of_ble_eq_true rfl) rfl dX1_seat_63) (fun x29 h28 => ?_)
        exact ct_iret S rfl dX1_seat_66
      · refine ct_case ?_ (fun c2_ => ?_)
        · refine ct_tableIn (tgt := 67) S dX1_seat_11 (by decide) (by decide) rfl (by decide) ?_
          refine ct_aload_n (k := 0) S dX1_seat_67 rfl rfl ?_
          refine ct_getR S fw_X1_42 dX1_seat_68 (fun r12 => ?_)
          refine ct_iload_n (k := 1) S dX1_seat_71 rfl rfl ?_
          refine ct_rc (fun b13 ci14 V15 hb16 hc17 hi18 => ?_)
          refine ct_cI (st := []) (cg_virtual (av := [cz_i l1]) S hb16 hc17 hi18 (fun _ e => mt_X3_holder e) md_X3_holder q1098 q1099 se_HeldCoats_Reign_holder__I_I_HeldCoats_Reign (by decide) (Nat.le_of_ble_eq_true rfl) rfl dX1_seat_72) (fun x20 h19 => ?_)
          exact ct_iret S rfl dX1_seat_75
        · refine ct_case ?_ (fun c3_ => ?_)
          · refine ct_tableIn (tgt := 76) S dX1_seat_11 (by decide) (by decide) rfl (by decide) ?_
            refine ct_aload_n (k := 0) S dX1_seat_76 rfl rfl ?_
            refine ct_getR S fw_X1_42 dX1_seat_77 (fun r9 => ?_)
            refine ct_iload_n (k := 1) S dX1_seat_80 rfl rfl ?_
            refine ct_cI (st := []) (cg_static (av := [cz_r r9, cz_i l1]) S (fun _ e => mt_X1_lain e) md_X1_lain (Or.inl q1115) q1116 (by decide) (Nat.le_of_ble_eq_true rfl) rfl dX1_seat_81) (fun x11 h10 => ?_)
            exact ct_iret S rfl dX1_seat_84
          · refine ct_tableOut (tgt := 85) S dX1_seat_11 (by have := lv_neT c0_ (show (0 : Int32).toInt = 0 by decide); have := lv_neT c1_ (show (1 : Int32).toInt = 1 by decide); have := lv_neT c2_ (show (2 : Int32).toInt = 2 by decide); have := lv_neT c3_ (show (3 : Int32).toInt = 3 by decide); omega) (by decide) ?_
            refine ct_iconst (v := (-1)) S dX1_seat_85 kI_m1 ?_
            exact ct_iret S rfl dX1_seat_86
  · refine ct_iconst (v := (-1)) S dX1_seat_8 kI_m1 ?_
    exact ct_iret S rfl dX1_seat_9
theorem mt_X1_seat {l : Launch} {D : cz_D} {l0 : Option Nat} {l1 : Int32} {l2 : Int32} {h : cz_H} {oh : cz_O × cz_H} (hz : fn_X1_seat l0 l1 l2 h = some oh) : cz_M l D yX1_seat (ws_ yX1_seat cX1_seat 3 ((Option.some Jvm.ClassFile.FieldType.int))) 7 [cz_r l0, cz_i l1, cz_i l2] h oh := cz_met (plainFor_of_name (by decide)) (Nat.le_of_ble_eq_true rfl) hz (fun K hl S => wk_X1_seat S)
/-! HeldCoats$SentenceReader.<init>([BILHeldCoats$Capital;)V -/
def dkwX21_init_0 : List UInt8 := [42, 43, 28, 17, 0, 200, 183, 0, 3, 42, 45, 181, 0, 9, 177]
abbrev dktX21_init_0 : List UInt8 := dkwX21_init_0 ++ []
theorem dksX21_init_0 : cX21_init.data.toList.drop 0 = dktX21_init_0 := by decide +kernel
theorem dX21_init_0 : decode cX21_init 0 = .ok (.aload_n 0, 1) := dk_42 (dk_at dksX21_init_0 0 rfl rfl)
theorem dX21_init_1 : decode cX21_init 1 = .ok (.aload_n 1, 1) := dk_43 (dk_at dksX21_init_0 1 rfl rfl)
theorem dX21_init_2 : decode cX21_init 2 = .ok (.iload_n 2, 1) := dk_28 (dk_at dksX21_init_0 2 rfl rfl)
theorem dX21_init_3 : decode cX21_init 3 = .ok (.sipush 200, 3) := dk_17 0 200 (dk_at dksX21_init_0 3 rfl rfl)
theorem dX21_init_6 : decode cX21_init 6 = .ok (.invokespecial 3, 3) := dk_183 0 3 (dk_at dksX21_init_0 6 rfl rfl)
theorem dX21_init_9 : decode cX21_init 9 = .ok (.aload_n 0, 1) := dk_42 (dk_at dksX21_init_0 9 rfl rfl)
theorem dX21_init_10 : decode cX21_init 10 = .ok (.aload_n 3, 1) := dk_45 (dk_at dksX21_init_0 10 rfl rfl)
theorem dX21_init_11 : decode cX21_init 11 = .ok (.putfield 9, 3) := dk_181 0 9 (dk_at dksX21_init_0 11 rfl rfl)
theorem dX21_init_14 : decode cX21_init 14 = .ok (.return_, 1) := dk_177 (dk_at dksX21_init_0 14 rfl rfl)
theorem fw_X21_9 : cz_FW "HeldCoats$SentenceReader" 9 [(18, 9)] "LHeldCoats$Capital;" := ⟨"HeldCoats$SentenceReader", "c", Or.inl q1632, List.forall_mem_cons.mpr ⟨⟨RX21, TX21, 12, rfl, by decide, rfl, rfl, Or.inl rfl⟩, fun _ h => absurd h List.not_mem_nil⟩, by decide⟩
theorem fp_X21_i_18_9 : cz_FP "HeldCoats$SentenceReader" "<init>" [(18, 9)] := List.forall_mem_cons.mpr ⟨⟨RX21, TX21, 12, rfl, Or.inr ⟨rfl, rfl, rfl⟩⟩, fun _ h => absurd h List.not_mem_nil⟩
set_option maxHeartbeats 4000000 in
set_option maxRecDepth 100000 in
noncomputable def fn_X21_init (l0 : Option Nat) (l1 : Option Nat) (l2 : Int32) (l3 : Option Nat) (h : cz_H) : cz_Z := cz_nn' l0 (cz_cV (fn_X6_init l0 l1 l2 200 h) (fun h3 => cz_put h3 l0 [(18, 9)] (cz_r l3) (fun h4 => some (.inl none, h4))))
set_option maxHeartbeats 4000000 in
set_option maxRecDepth 100000 in
theorem wk_X21_init {K : cz_K} {D : cz_D} {h0 : cz_H} {oh : cz_O × cz_H} {l0 : Option Nat} {l1 : Option Nat} {l2 : Int32} {l3 : Option Nat} {h : cz_H} (S : cz_S K D h0 cX21_init 4 "HeldCoats$SentenceReader" ((Option.none : Option Jvm.ClassFile.FieldType)) "<init>" ([])) : cz_T K D 4 h0 oh 4 (fn_X21_init l0 l1 l2 l3 h) h 0 [(0, cz_r l0), (1, cz_r l1), (2, cz_i l2), (3, cz_r l3)] [] := by
  unfold fn_X21_init
  refine ct_aload_n (k := 0) S dX21_init_0 rfl rfl ?_
  refine ct_aload_n (k := 1) S dX21_init_1 rfl rfl ?_
  refine ct_iload_n (k := 2) S dX21_init_2 rfl rfl ?_
  refine ct_sipush (v := 200) S dX21_init_3 kS_200 ?_
  refine ct_nn (fun b1 hb2 => ?_)
  refine ct_cV (st := []) (cg_init (av := [cz_r l1, cz_i l2, cz_i 200]) S hb2 (fun _ e => mt_X6_init e) q463 (Or.inl q1631) rfl q462 q124 nh_HeldCoats_Reader__init____BII_V (by decide) (by decide) (Nat.le_of_ble_eq_true rfl) rfl dX21_init_6) (fun h3 => ?_)
  refine ct_aload_n (k := 0) S dX21_init_9 rfl rfl ?_
  refine ct_aload_n (k := 3) S dX21_init_10 rfl rfl ?_
  refine ct_put S fw_X21_9 fp_X21_i_18_9 (cz_fits_r pd_LHeldCoats_Capital_) dX21_init_11 (fun h4 => ?_)
  exact ct_vret S rfl dX21_init_14
theorem mt_X21_init {l : Launch} {D : cz_D} {l0 : Option Nat} {l1 : Option Nat} {l2 : Int32} {l3 : Option Nat} {h : cz_H} {oh : cz_O × cz_H} (hz : fn_X21_init l0 l1 l2 l3 h = some oh) : cz_M l D yX21_init (ws_ yX21_init cX21_init 4 ((Option.none : Option Jvm.ClassFile.FieldType))) 4 [cz_r l0, cz_r l1, cz_i l2, cz_r l3] h oh := cz_met (plainFor_of_name (by decide)) (Nat.le_of_ble_eq_true rfl) hz (fun K hl S => wk_X21_init S)
/-! HeldCoats$Cond.<init>()V -/
theorem dX22_init_0 : decode cX22_init 0 = .ok (.aload_n 0, 1) := by decide +kernel
theorem dX22_init_1 : decode cX22_init 1 = .ok (.invokespecial 1, 3) := by decide +kernel
theorem dX22_init_4 : decode cX22_init 4 = .ok (.return_, 1) := by decide +kernel
set_option maxHeartbeats 4000000 in
set_option maxRecDepth 100000 in
noncomputable def fn_X22_init (l0 : Option Nat) (h : cz_H) : cz_Z := cz_nn' l0 (some (.inl none, h))
set_option maxHeartbeats 4000000 in
set_option maxRecDepth 100000 in
theorem wk_X22_init {K : cz_K} {D : cz_D} {h0 : cz_H} {oh : cz_O × cz_H} {l0 : Option Nat} {h : cz_H} (S : cz_S K D h0 cX22_init 1 "HeldCoats$Cond" ((Option.none : Option Jvm.ClassFile.FieldType)) "<init>" ([])) : cz_T K D 3 h0 oh 1 (fn_X22_init l0 h) h 0 [(0, cz_r l0)] [] := by
  unfold fn_X22_init
  refine ct_aload_n (k := 0) S dX22_init_0 rfl rfl ?_
  refine ct_oinit S q1702 q165 q166 (by decide) (Nat.le_of_ble_eq_true rfl) dX22_init_1 ?_
  exact ct_vret S rfl dX22_init_4
theorem mt_X22_init {l : Launch} {D : cz_D} {l0 : Option Nat} {h : cz_H} {oh : cz_O × cz_H} (hz : fn_X22_init l0 h = some oh) : cz_M l D yX22_init (ws_ yX22_init cX22_init 1 ((Option.none : Option Jvm.ClassFile.FieldType))) 3 [cz_r l0] h oh := cz_met (plainFor_of_name (by decide)) (Nat.le_of_ble_eq_true rfl) hz (fun K hl S => wk_X22_init S)
/-! HeldCoats$Two.<init>(LHeldCoats$Cond;LHeldCoats$Cond;Z)V -/
def dkwX27_init_0 : List UInt8 := [42, 183, 0, 1, 42, 43, 181, 0, 7, 42, 44, 181, 0, 13, 42, 29, 181, 0, 16, 177]
abbrev dktX27_init_0 : List UInt8 := dkwX27_init_0 ++ []
theorem dksX27_init_0 : cX27_init.data.toList.drop 0 = dktX27_init_0 := by decide +kernel
theorem dX27_init_0 : decode cX27_init 0 = .ok (.aload_n 0, 1) := dk_42 (dk_at dksX27_init_0 0 rfl rfl)
theorem dX27_init_1 : decode cX27_init 1 = .ok (.invokespecial 1, 3) := dk_183 0 1 (dk_at dksX27_init_0 1 rfl rfl)
theorem dX27_init_4 : decode cX27_init 4 = .ok (.aload_n 0, 1) := dk_42 (dk_at dksX27_init_0 4 rfl rfl)
theorem dX27_init_5 : decode cX27_init 5 = .ok (.aload_n 1, 1) := dk_43 (dk_at dksX27_init_0 5 rfl rfl)
theorem dX27_init_6 : decode cX27_init 6 = .ok (.putfield 7, 3) := dk_181 0 7 (dk_at dksX27_init_0 6 rfl rfl)
theorem dX27_init_9 : decode cX27_init 9 = .ok (.aload_n 0, 1) := dk_42 (dk_at dksX27_init_0 9 rfl rfl)
theorem dX27_init_10 : decode cX27_init 10 = .ok (.aload_n 2, 1) := dk_44 (dk_at dksX27_init_0 10 rfl rfl)
theorem dX27_init_11 : decode cX27_init 11 = .ok (.putfield 13, 3) := dk_181 0 13 (dk_at dksX27_init_0 11 rfl rfl)
theorem dX27_init_14 : decode cX27_init 14 = .ok (.aload_n 0, 1) := dk_42 (dk_at dksX27_init_0 14 rfl rfl)
theorem dX27_init_15 : decode cX27_init 15 = .ok (.iload_n 3, 1) := dk_29 (dk_at dksX27_init_0 15 rfl rfl)
theorem dX27_init_16 : decode cX27_init 16 = .ok (.putfield 16, 3) := dk_181 0 16 (dk_at dksX27_init_0 16 rfl rfl)
theorem dX27_init_19 : decode cX27_init 19 = .ok (.return_, 1) := dk_177 (dk_at dksX27_init_0 19 rfl rfl)
theorem nh_HeldCoats_Cond__init____V : cz_nh ⟨"HeldCoats$Cond", "<init>", "()V"⟩ 0 := ⟨by decide, by decide, by decide +kernel⟩
theorem fp_X27_i_23_0 : cz_FP "HeldCoats$Two" "<init>" [(23, 0)] := List.forall_mem_cons.mpr ⟨⟨RX27, TX27, 3, rfl, Or.inr ⟨rfl, rfl, rfl⟩⟩, fun _ h => absurd h List.not_mem_nil⟩
theorem fp_X27_i_23_1 : cz_FP "HeldCoats$Two" "<init>" [(23, 1)] := List.forall_mem_cons.mpr ⟨⟨RX27, TX27, 3, rfl, Or.inr ⟨rfl, rfl, rfl⟩⟩, fun _ h => absurd h List.not_mem_nil⟩
theorem fp_X27_i_23_2 : cz_FP "HeldCoats$Two" "<init>" [(23, 2)] := List.forall_mem_cons.mpr ⟨⟨RX27, TX27, 3, rfl, Or.inr ⟨rfl, rfl, rfl⟩⟩, fun _ h => absurd h List.not_mem_nil⟩
set_option maxHeartbeats 4000000 in
set_option maxRecDepth 100000 in
noncomputable def fn_X27_init (l0 : Option Nat) (l1 : Option Nat) (l2 : Option Nat) (l3 : Int32) (h : cz_H) : cz_Z := cz_nn' l0 (cz_cV (fn_X22_init l0 h) (fun h3 => cz_put h3 l0 [(23, 0)] (cz_r l1) (fun h4 => cz_put h4 l0 [(23, 1)] (cz_r l2) (fun h5 => cz_ckz l3 (cz_put h5 l0 [(23, 2)] (cz_i l3) (fun h6 => some (.inl none, h6)))))))
set_option maxHeartbeats 4000000 in
set_option maxRecDepth 100000 in
theorem wk_X27_init {K : cz_K} {D : cz_D} {h0 : cz_H} {oh : cz_O × cz_H} {l0 : Option Nat} {l1 : Option Nat} {l2 : Option Nat} {l3 : Int32} {h : cz_H} (S : cz_S K D h0 cX27_init 4 "HeldCoats$Two" ((Option.none : Option Jvm.ClassFile.FieldType)) "<init>" ([])) : cz_T K D 4 h0 oh 4 (fn_X27_init l0 l1 l2 l3 h) h 0 [(0, cz_r l0), (1, cz_r l1), (2, cz_r l2), (3, cz_i l3)] [] := by
  unfold fn_X27_init
  refine ct_aload_n (k := 0) S dX27_init_0 rfl rfl ?_
  refine ct_nn (fun b1 hb2 => ?_)
  refine ct_cV (st := []) (cg_init (av := []) S hb2 (fun _ e => mt_X22_init e) q1701 (Or.inr ⟨_, q1762⟩) rfl q1700 q153 nh_HeldCoats_Cond__init____V (by decide) (by decide) (Nat.le_of_ble_eq_true rfl) rfl dX27_init_1) (fun h3 => ?_)
  refine ct_aload_n (k := 0) S dX27_init_4 rfl rfl ?_
  refine ct_aload_n (k := 1) S dX27_init_5 rfl rfl ?_
  refine ct_put S fw_X27_7 fp_X27_i_23_0 (cz_fits_r pd_LHeldCoats_Cond_) dX27_init_6 (fun h4 => ?_)
  refine ct_aload_n (k := 0) S dX27_init_9 rfl rfl ?_
  refine ct_aload_n (k := 2) S dX27_init_10 rfl rfl ?_
  refine ct_put S fw_X27_13 fp_X27_i_23_1 (cz_fits_r pd_LHeldCoats_Cond_) dX27_init_11 (fun h5 => ?_)
  refine ct_aload_n (k := 0) S dX27_init_14 rfl rfl ?_
  refine ct_iload_n (k := 3) S dX27_init_15 rfl rfl ?_
  refine ct_ckz (fun hx => ?_)
  refine ct_put S fw_X27_16 fp_X27_i_23_2 (cz_fits_z pd_Z hx) dX27_init_16 (fun h6 => ?_)
  exact ct_vret S rfl dX27_init_19
theorem mt_X27_init {l : Launch} {D : cz_D} {l0 : Option Nat} {l1 : Option Nat} {l2 : Option Nat} {l3 : Int32} {h : cz_H} {oh : cz_O × cz_H} (hz : fn_X27_init l0 l1 l2 l3 h = some oh) : cz_M l D yX27_init (ws_ yX27_init cX27_init 4 ((Option.none : Option Jvm.ClassFile.FieldType))) 4 [cz_r l0, cz_r l1, cz_r l2, cz_i l3] h oh := cz_met (plainFor_of_name (by decide)) (Nat.le_of_ble_eq_true rfl) hz (fun K hl S => wk_X27_init S)
/-! HeldCoats$SentenceReader.numbered()I -/
def dkwX21_numbered_2 : List UInt8 := [153, 0, 7, 6, 167, 0, 4, 2, 172]
abbrev dktX21_numbered_2 : List UInt8 := dkwX21_numbered_2 ++ []
def dkwX21_numbered_1 : List UInt8 := [167, 0, 30, 42, 18, 52, 182, 0, 35, 153, 0, 7, 5, 167, 0, 17, 42, 18, 54, 182, 0, 35]
abbrev dktX21_numbered_1 : List UInt8 := dkwX21_numbered_1 ++ dktX21_numbered_2
def dkwX21_numbered_0 : List UInt8 := [42, 18, 48, 182, 0, 35, 153, 0, 7, 3, 167, 0, 43, 42, 18, 50, 182, 0, 35, 153, 0, 7, 4]
abbrev dktX21_numbered_0 : List UInt8 := dkwX21_numbered_0 ++ dktX21_numbered_1
theorem dksX21_numbered_0 : cX21_numbered.data.toList.drop 0 = dktX21_numbered_0 := by decide +kernel
theorem dksX21_numbered_1 : cX21_numbered.data.toList.drop 23 = dktX21_numbered_1 := dk_seg dksX21_numbered_0 23 rfl rfl
theorem dksX21_numbered_2 : cX21_numbered.data.toList.drop 45 = dktX21_numbered_2 := dk_seg dksX21_numbered_1 22 rfl rfl
theorem dX21_numbered_0 : decode cX21_numbered 0 = .ok (.aload_n 0, 1) := dk_42 (dk_at dksX21_numbered_0 0 rfl rfl)
theorem dX21_numbered_1 : decode cX21_numbered 1 = .ok (.ldc 48, 2) := dk_18 48 (dk_at dksX21_numbered_0 1 rfl rfl)
theorem dX21_numbered_3 : decode cX21_numbered 3 = .ok (.invokevirtual 35, 3) := dk_182 0 35 (dk_at dksX21_numbered_0 3 rfl rfl)
theorem dX21_numbered_6 : decode cX21_numbered 6 = .ok (.ifCond .eq 7, 3) := dk_153 0 7 (dk_at dksX21_numbered_0 6 rfl rfl)
theorem dX21_numbered_9 : decode cX21_numbered 9 = .ok (.iconst 0, 1) := dk_3 (dk_at dksX21_numbered_0 9 rfl rfl)
theorem dX21_numbered_10 : decode cX21_numbered 10 = .ok (.goto 43, 3) := dk_167 0 43 (dk_at dksX21_numbered_0 10 rfl rfl)
theorem dX21_numbered_13 : decode cX21_numbered 13 = .ok (.aload_n 0, 1) := dk_42 (dk_at dksX21_numbered_0 13 rfl rfl)
theorem dX21_numbered_14 : decode cX21_numbered 14 = .ok (.ldc 50, 2) := dk_18 50 (dk_at dksX21_numbered_0 14 rfl rfl)
theorem dX21_numbered_16 : decode cX21_numbered 16 = .ok (.invokevirtual 35, 3) := dk_182 0 35 (dk_at dksX21_numbered_0 16 rfl rfl)
theorem dX21_numbered_19 : decode cX21_numbered 19 = .ok (.ifCond .eq 7, 3) := dk_153 0 7 (dk_at dksX21_numbered_0 19 rfl rfl)
theorem dX21_numbered_22 : decode cX21_numbered 22 = .ok (.iconst 1, 1) := dk_4 (dk_at dksX21_numbered_0 22 rfl rfl)
theorem dX21_numbered_23 : decode cX21_numbered 23 = .ok (.goto 30, 3) := dk_167 0 30 (dk_at dksX21_numbered_1 0 rfl rfl)
theorem dX21_numbered_26 : decode cX21_numbered 26 = .ok (.aload_n 0, 1) := dk_42 (dk_at dksX21_numbered_1 3 rfl rfl)
theorem dX21_numbered_27 : decode cX21_numbered 27 = .ok (.ldc 52, 2) := dk_18 52 (dk_at dksX21_numbered_1 4 rfl rfl)
theorem dX21_numbered_29 : decode cX21_numbered 29 = .ok (.invokevirtual 35, 3) := dk_182 0 35 (dk_at dksX21_numbered_1 6 rfl rfl)
theorem dX21_numbered_32 : decode cX21_numbered 32 = .ok (.ifCond .eq 7, 3) := dk_153 0 7 (dk_at dksX21_numbered_1 9 rfl rfl)
theorem dX21_numbered_35 : decode cX21_numbered 35 = .ok (.iconst 2, 1) := dk_5 (dk_at dksX21_numbered_1 12 rfl rfl)
theorem dX21_numbered_36 : decode cX21_numbered 36 = .ok (.goto 17, 3) := dk_167 0 17 (dk_at dksX21_numbered_1 13 rfl rfl)
theorem dX21_numbered_39 : decode cX21_numbered 39 = .ok (.aload_n 0, 1) := dk_42 (dk_at dksX21_numbered_1 16 rfl rfl)
theorem dX21_numbered_40 : decode cX21_numbered 40 = .ok (.ldc 54, 2) := dk_18 54 (dk_at dksX21_numbered_1 17 rfl rfl)
theorem dX21_numbered_42 : decode cX21_numbered 42 = .ok (.invokevirtual 35, 3) := dk_182 0 35 (dk_at dksX21_numbered_1 19 rfl rfl)
theorem dX21_numbered_45 : decode cX21_numbered 45 = .ok (.ifCond .eq 7, 3) := dk_153 0 7 (dk_at dksX21_numbered_2 0 rfl rfl)
theorem dX21_numbered_48 : decode cX21_numbered 48 = .ok (.iconst 3, 1) := dk_6 (dk_at dksX21_numbered_2 3 rfl rfl)
theorem dX21_numbered_49 : decode cX21_numbered 49 = .ok (.goto 4, 3) := dk_167 0 4 (dk_at dksX21_numbered_2 4 rfl rfl)
theorem dX21_numbered_52 : decode cX21_numbered 52 = .ok (.iconst (-1), 1) := dk_2 (dk_at dksX21_numbered_2 7 rfl rfl)
theorem dX21_numbered_53 : decode cX21_numbered 53 = .ok (.ireturn, 1) := dk_172 (dk_at dksX21_numbered_2 8 rfl rfl)
theorem se_HeldCoats_SentenceReader_is__Ljava_lang_String__Z_HeldCoats_Reader : ∀ c ∈ ([18] : List Nat), ∃ q : vw_C, cz_cl[c]? = some q ∧ Cond.selects q.1 (⟨"HeldCoats$SentenceReader", "is", "(Ljava/lang/String;)Z"⟩ : MethodName) (⟨"HeldCoats$Reader", "is", "(Ljava/lang/String;)Z"⟩ : MethodName) ∈ lw_all := List.forall_mem_cons.mpr ⟨⟨_, cz_cl18, q1674⟩, fun _ h => absurd h List.not_mem_nil⟩
theorem nh_HeldCoats_SentenceReader_is__Ljava_lang_String__Z : cz_nh ⟨"HeldCoats$SentenceReader", "is", "(Ljava/lang/String;)Z"⟩ 1 := ⟨by decide, by decide, by decide +kernel⟩
set_option maxHeartbeats 4000000 in
set_option maxRecDepth 100000 in
noncomputable def fn_X21_numbered (l0 : Option Nat) (h : cz_H) : cz_Z := cz_rc h l0 [18] (cz_cI (fn_X6_is l0 (h.1.2.2.2 21) h) (fun x8 h7 => (if x8 = 0 then cz_rc h7 l0 [18] (cz_cI (fn_X6_is l0 (h7.1.2.2.2 22) h7) (fun x16 h15 => (if x16 = 0 then cz_rc h15 l0 [18] (cz_cI (fn_X6_is l0 (h15.1.2.2.2 23) h15) (fun x24 h23 => (if x24 = 0 then cz_rc h23 l0 [18] (cz_cI (fn_X6_is l0 (h23.1.2.2.2 24) h23) (fun x32 h31 => (if x32 = 0 then some (.inl (some (cz_i (-1))), h31) else some (.inl (some (cz_i 3)), h31)))) else some (.inl (some (cz_i 2)), h23)))) else some (.inl (some (cz_i 1)), h15)))) else some (.inl (some (cz_i 0)), h7))))
set_option maxHeartbeats 4000000 in
set_option maxRecDepth 100000 in
theorem wk_X21_numbered {K : cz_K} {D : cz_D} {h0 : cz_H} {oh : cz_O × cz_H} {l0 : Option Nat} {h : cz_H} (S : cz_S K D h0 cX21_numbered 1 "HeldCoats$SentenceReader" ((Option.some Jvm.ClassFile.FieldType.int)) "numbered" ([])) : cz_T K D 5 h0 oh 1 (fn_X21_numbered l0 h) h 0 [(0, cz_r l0)] [] := by
  unfold fn_X21_numbered
  refine ct_aload_n (k := 0) S dX21_numbered_0 rfl rfl ?_
  refine ct_ldcS (i := 21) S rfl dX21_numbered_1 ?_
  refine ct_rc (fun b1 ci2 V3 hb4 hc5 hi6 => ?_)
  refine ct_cI (st := []) (cg_up (owner := "HeldCoats$Reader") (av := [cz_r (h.1.2.2.2 21)]) S hb4 hc5 hi6 (fun _ e => mt_X6_is e) q727 q1672 q1673 (Or.inl q724) ⟨by decide, by decide⟩ q726 q124 nh_HeldCoats_SentenceReader_is__Ljava_lang_String__Z se_HeldCoats_SentenceReader_is__Ljava_lang_String__Z_HeldCoats_Reader (by decide) (by decide) (Nat.le_of_ble_eq_true rfl) rfl dX21_numbered_3) (fun x8 h7 => ?_)
  refine ct_if_eq (tgt := 13) S dX21_numbered_6 (by decide) ?_ ?_
  · refine ct_aload_n (k := 0) S dX21_numbered_13 rfl rfl ?_
    refine ct_ldcS (i := 22) S rfl dX21_numbered_14 ?_
    refine ct_rc (fun b9 ci10 V11 hb12 hc13 hi14 => ?_)
    refine ct_cI (st := []) (cg_up (owner := "HeldCoats$Reader") (av := [cz_r (h7.1.2.2.2 22)]) S hb12 hc13 hi14 (fun _ e => mt_X6_is e) q727 q1672 q1673 (Or.inl q724) ⟨by decide, by decide⟩ q726 q124 nh_HeldCoats_SentenceReader_is__Ljava_lang_String__Z se_HeldCoats_SentenceReader_is__Ljava_lang_String__Z_HeldCoats_Reader (by decide) (by decide) (Nat.le_of_ble_eq_true rfl) rfl dX21_numbered_16) (fun x16 h15 => ?_)
    refine ct_if_eq (tgt := 26) S dX21_numbered_19 (by decide) ?_ ?_
    · refine ct_aload_n (k := 0) S dX21_numbered_26 rfl rfl ?_
      refine ct_ldcS (i := 23) S rfl dX21_numbered_27 ?_
      refine ct_rc (fun b17 ci18 V19 hb20 hc21 hi22 => ?_)
      refine ct_cI (st := []) (cg_up (owner := "HeldCoats$Reader") (av := [cz_r (h15.1.2.2.2 23)]) S hb20 hc21 hi22 (fun _ e => mt_X6_is e) q727 q1672 q1673 (Or.inl q724) ⟨by decide, by decide⟩ q726 q124 nh_HeldCoats_SentenceReader_is__Ljava_lang_String__Z se_HeldCoats_SentenceReader_is__Ljava_lang_String__Z_HeldCoats_Reader (by decide) (by decide) (Nat.le_of_ble_eq_true rfl) rfl dX21_numbered_29) (fun x24 h23 => ?_)
      refine ct_if_eq (tgt := 39) S dX21_numbered_32 (by decide) ?_ ?_
      · refine ct_aload_n (k := 0) S dX21_numbered_39 rfl rfl ?_
        refine ct_ldcS (i := 24) S rfl dX21_numbered_40 ?_
        refine ct_rc (fun b25 ci26 V27 hb28 hc29 hi30 => ?_)
        refine ct_cI (st := []) (cg_up (owner := "HeldCoats$Reader") (av := [cz_r (h23.1.2.2.2 24)]) S hb28 hc29 hi30 (fun _ e => mt_X6_is e) q727 q1672 q1673 (Or.inl q724) ⟨by decide, by decide⟩ q726 q124 nh_HeldCoats_SentenceReader_is__Ljava_lang_String__Z se_HeldCoats_SentenceReader_is__Ljava_lang_String__Z_HeldCoats_Reader (by decide) (by decide) (Nat.le_of_ble_eq_true rfl) rfl dX21_numbered_42) (fun x32 h31 => ?_)
        refine ct_if_eq (tgt := 52) S dX21_numbered_45 (by decide) ?_ ?_
        · refine ct_iconst (v := (-1)) S dX21_numbered_52 kI_m1 ?_
          exact ct_iret S rfl dX21_numbered_53
        · refine ct_iconst (v := 3) S dX21_numbered_48 kI_3 ?_
          refine ct_goto (tgt := 53) S dX21_numbered_49 (by decide) ?_
          exact ct_iret S rfl dX21_numbered_53
      · refine ct_iconst (v := 2) S dX21_numbered_35 kI_2 ?_
        refine ct_goto (tgt := 53) S dX21_numbered_36 (by decide) ?_
        exact ct_iret S rfl dX21_numbered_53
    · refine ct_iconst (v := 1) S dX21_numbered_22 kI_1 ?_
      refine ct_goto (tgt := 53) S dX21_numbered_23 (by decide) ?_
      exact ct_iret S rfl dX21_numbered_53
  · refine ct_iconst (v := 0) S dX21_numbered_9 kI_0 ?_
    refine ct_goto (tgt := 53) S dX21_numbered_10 (by decide) ?_
    exact ct_iret S rfl dX21_numbered_53
theorem mt_X21_numbered {l : Launch} {D : cz_D} {l0 : Option Nat} {h : cz_H} {oh : cz_O × cz_H} (hz : fn_X21_numbered l0 h = some oh) : cz_M l D yX21_numbered (ws_ yX21_numbered cX21_numbered 1 ((Option.some Jvm.ClassFile.FieldType.int))) 5 [cz_r l0] h oh := cz_met (plainFor_of_name (by decide)) (Nat.le_of_ble_eq_true rfl) hz (fun K hl S => wk_X21_numbered S)
/-! HeldCoats$Than.<init>(III)V -/
def dkwX26_init_0 : List UInt8 := [42, 183, 0, 3, 42, 27, 181, 0, 9, 42, 28, 181, 0, 15, 42, 29, 181, 0, 18, 177]
abbrev dktX26_init_0 : List UInt8 := dkwX26_init_0 ++ []
theorem dksX26_init_0 : cX26_init.data.toList.drop 0 = dktX26_init_0 := by decide +kernel
theorem dX26_init_0 : decode cX26_init 0 = .ok (.aload_n 0, 1) := dk_42 (dk_at dksX26_init_0 0 rfl rfl)
theorem dX26_init_1 : decode cX26_init 1 = .ok (.invokespecial 3, 3) := dk_183 0 3 (dk_at dksX26_init_0 1 rfl rfl)
theorem dX26_init_4 : decode cX26_init 4 = .ok (.aload_n 0, 1) := dk_42 (dk_at dksX26_init_0 4 rfl rfl)
theorem dX26_init_5 : decode cX26_init 5 = .ok (.iload_n 1, 1) := dk_27 (dk_at dksX26_init_0 5 rfl rfl)
theorem dX26_init_6 : decode cX26_init 6 = .ok (.putfield 9, 3) := dk_181 0 9 (dk_at dksX26_init_0 6 rfl rfl)
theorem dX26_init_9 : decode cX26_init 9 = .ok (.aload_n 0, 1) := dk_42 (dk_at dksX26_init_0 9 rfl rfl)
theorem dX26_init_10 : decode cX26_init 10 = .ok (.iload_n 2, 1) := dk_28 (dk_at dksX26_init_0 10 rfl rfl)
theorem dX26_init_11 : decode cX26_init 11 = .ok (.putfield 15, 3) := dk_181 0 15 (dk_at dksX26_init_0 11 rfl rfl)
theorem dX26_init_14 : decode cX26_init 14 = .ok (.aload_n 0, 1) := dk_42 (dk_at dksX26_init_0 14 rfl rfl)
theorem dX26_init_15 : decode cX26_init 15 = .ok (.iload_n 3, 1) := dk_29 (dk_at dksX26_init_0 15 rfl rfl)
theorem dX26_init_16 : decode cX26_init 16 = .ok (.putfield 18, 3) := dk_181 0 18 (dk_at dksX26_init_0 16 rfl rfl)
theorem dX26_init_19 : decode cX26_init 19 = .ok (.return_, 1) := dk_177 (dk_at dksX26_init_0 19 rfl rfl)
theorem fp_X26_i_22_0 : cz_FP "HeldCoats$Than" "<init>" [(22, 0)] := List.forall_mem_cons.mpr ⟨⟨RX26, TX26, 3, rfl, Or.inr ⟨rfl, rfl, rfl⟩⟩, fun _ h => absurd h List.not_mem_nil⟩
theorem fp_X26_i_22_1 : cz_FP "HeldCoats$Than" "<init>" [(22, 1)] := List.forall_mem_cons.mpr ⟨⟨RX26, TX26, 3, rfl, Or.inr ⟨rfl, rfl, rfl⟩⟩, fun _ h => absurd h List.not_mem_nil⟩
theorem fp_X26_i_22_2 : cz_FP "HeldCoats$Than" "<init>" [(22, 2)] := List.forall_mem_cons.mpr ⟨⟨RX26, TX26, 3, rfl, Or.inr ⟨rfl, rfl, rfl⟩⟩, fun _ h => absurd h List.not_mem_nil⟩
set_option maxHeartbeats 4000000 in
set_option maxRecDepth 100000 in
noncomputable def fn_X26_init (l0 : Option Nat) (l1 : Int32) (l2 : Int32) (l3 : Int32) (h : cz_H) : cz_Z := cz_nn' l0 (cz_cV (fn_X22_init l0 h) (fun h3 => cz_put h3 l0 [(22, 0)] (cz_i l1) (fun h4 => cz_put h4 l0 [(22, 1)] (cz_i l2) (fun h5 => cz_put h5 l0 [(22, 2)] (cz_i l3) (fun h6 => some (.inl none, h6))))))
set_option maxHeartbeats 4000000 in
set_option maxRecDepth 100000 in
theorem wk_X26_init {K : cz_K} {D : cz_D} {h0 : cz_H} {oh : cz_O × cz_H} {l0 : Option Nat} {l1 : Int32} {l2 : Int32} {l3 : Int32} {h : cz_H} (S : cz_S K D h0 cX26_init 4 "HeldCoats$Than" ((Option.none : Option Jvm.ClassFile.FieldType)) "<init>" ([])) : cz_T K D 4 h0 oh 4 (fn_X26_init l0 l1 l2 l3 h) h 0 [(0, cz_r l0), (1, cz_i l1), (2, cz_i l2), (3, cz_i l3)] [] := by
  unfold fn_X26_init
  refine ct_aload_n (k := 0) S dX26_init_0 rfl rfl ?_
  refine ct_nn (fun b1 hb2 => ?_)
  refine ct_cV (st := []) (cg_init (av := []) S hb2 (fun _ e => mt_X22_init e) q1701 (Or.inr ⟨_, q1745⟩) rfl q1700 q153 nh_HeldCoats_Cond__init____V (by decide) (by decide) (Nat.le_of_ble_eq_true rfl) rfl dX26_init_1) (fun h3 => ?_)
  refine ct_aload_n (k := 0) S dX26_init_4 rfl rfl ?_
  refine ct_iload_n (k := 1) S dX26_init_5 rfl rfl ?_
  refine ct_put S fw_X26_9 fp_X26_i_22_0 (cz_fits_i pd_I) dX26_init_6 (fun h4 => ?_)
  refine ct_aload_n (k := 0) S dX26_init_9 rfl rfl ?_
  refine ct_iload_n (k := 2) S dX26_init_10 rfl rfl ?_
  refine ct_put S fw_X26_15 fp_X26_i_22_1 (cz_fits_i pd_I) dX26_init_11 (fun h5 => ?_)
  refine ct_aload_n (k := 0) S dX26_init_14 rfl rfl ?_
  refine ct_iload_n (k := 3) S dX26_init_15 rfl rfl ?_
  refine ct_put S fw_X26_18 fp_X26_i_22_2 (cz_fits_i pd_I) dX26_init_16 (fun h6 => ?_)
  exact ct_vret S rfl dX26_init_19
theorem mt_X26_init {l : Launch} {D : cz_D} {l0 : Option Nat} {l1 : Int32} {l2 : Int32} {l3 : Int32} {h : cz_H} {oh : cz_O × cz_H} (hz : fn_X26_init l0 l1 l2 l3 h = some oh) : cz_M l D yX26_init (ws_ yX26_init cX26_init 4 ((Option.none : Option Jvm.ClassFile.FieldType))) 4 [cz_r l0, cz_i l1, cz_i l2, cz_i l3] h oh := cz_met (plainFor_of_name (by decide)) (Nat.le_of_ble_eq_true rfl) hz (fun K hl S => wk_X26_init S)
/-! HeldCoats$SentenceReader.than(I)LHeldCoats$Cond; -/
def dkwX21_than_2 : List UInt8 := [187, 0, 113, 89, 27, 28, 42, 3, 17, 3, 231, 182, 0, 115, 183, 0, 118, 176]
abbrev dktX21_than_2 : List UInt8 := dkwX21_than_2 ++ []
def dkwX21_than_1 : List UInt8 := [16, 41, 159, 0, 7, 4, 167, 0, 4, 3, 4, 182, 0, 27, 42, 180, 0, 56, 61, 42, 182, 0, 15]
abbrev dktX21_than_1 : List UInt8 := dkwX21_than_1 ++ dktX21_than_2
def dkwX21_than_0 : List UInt8 := [42, 42, 180, 0, 23, 16, 6, 160, 0, 25, 42, 180, 0, 56, 16, 40, 159, 0, 16, 42, 180, 0, 56]
abbrev dktX21_than_0 : List UInt8 := dkwX21_than_0 ++ dktX21_than_1
theorem dksX21_than_0 : cX21_than.data.toList.drop 0 = dktX21_than_0 := by decide +kernel
theorem dksX21_than_1 : cX21_than.data.toList.drop 23 = dktX21_than_1 := dk_seg dksX21_than_0 23 rfl rfl
theorem dksX21_than_2 : cX21_than.data.toList.drop 46 = dktX21_than_2 := dk_seg dksX21_than_1 23 rfl rfl
theorem dX21_than_0 : decode cX21_than 0 = .ok (.aload_n 0, 1) := dk_42 (dk_at dksX21_than_0 0 rfl rfl)
theorem dX21_than_1 : decode cX21_than 1 = .ok (.aload_n 0, 1) := dk_42 (dk_at dksX21_than_0 1 rfl rfl)
theorem dX21_than_2 : decode cX21_than 2 = .ok (.getfield 23, 3) := dk_180 0 23 (dk_at dksX21_than_0 2 rfl rfl)
theorem dX21_than_5 : decode cX21_than 5 = .ok (.bipush 6, 2) := dk_16 6 (dk_at dksX21_than_0 5 rfl rfl)
theorem dX21_than_7 : decode cX21_than 7 = .ok (.if_icmp .ne 25, 3) := dk_160 0 25 (dk_at dksX21_than_0 7 rfl rfl)
theorem dX21_than_10 : decode cX21_than 10 = .ok (.aload_n 0, 1) := dk_42 (dk_at dksX21_than_0 10 rfl rfl)
theorem dX21_than_11 : decode cX21_than 11 = .ok (.getfield 56, 3) := dk_180 0 56 (dk_at dksX21_than_0 11 rfl rfl)
theorem dX21_than_14 : decode cX21_than 14 = .ok (.bipush 40, 2) := dk_16 40 (dk_at dksX21_than_0 14 rfl rfl)
theorem dX21_than_16 : decode cX21_than 16 = .ok (.if_icmp .eq 16, 3) := dk_159 0 16 (dk_at dksX21_than_0 16 rfl rfl)
theorem dX21_than_19 : decode cX21_than 19 = .ok (.aload_n 0, 1) := dk_42 (dk_at dksX21_than_0 19 rfl rfl)
theorem dX21_than_20 : decode cX21_than 20 = .ok (.getfield 56, 3) := dk_180 0 56 (dk_at dksX21_than_0 20 rfl rfl)
theorem dX21_than_23 : decode cX21_than 23 = .ok (.bipush 41, 2) := dk_16 41 (dk_at dksX21_than_1 0 rfl rfl)
theorem dX21_than_25 : decode cX21_than 25 = .ok (.if_icmp .eq 7, 3) := dk_159 0 7 (dk_at dksX21_than_1 2 rfl rfl)
theorem dX21_than_28 : decode cX21_than 28 = .ok (.iconst 1, 1) := dk_4 (dk_at dksX21_than_1 5 rfl rfl)
theorem dX21_than_29 : decode cX21_than 29 = .ok (.goto 4, 3) := dk_167 0 4 (dk_at dksX21_than_1 6 rfl rfl)
theorem dX21_than_32 : decode cX21_than 32 = .ok (.iconst 0, 1) := dk_3 (dk_at dksX21_than_1 9 rfl rfl)
theorem dX21_than_33 : decode cX21_than 33 = .ok (.iconst 1, 1) := dk_4 (dk_at dksX21_than_1 10 rfl rfl)
theorem dX21_than_34 : decode cX21_than 34 = .ok (.invokevirtual 27, 3) := dk_182 0 27 (dk_at dksX21_than_1 11 rfl rfl)
theorem dX21_than_37 : decode cX21_than 37 = .ok (.aload_n 0, 1) := dk_42 (dk_at dksX21_than_1 14 rfl rfl)
theorem dX21_than_38 : decode cX21_than 38 = .ok (.getfield 56, 3) := dk_180 0 56 (dk_at dksX21_than_1 15 rfl rfl)
theorem dX21_than_41 : decode cX21_than 41 = .ok (.istore_n 2, 1) := dk_61 (dk_at dksX21_than_1 18 rfl rfl)
theorem dX21_than_42 : decode cX21_than 42 = .ok (.aload_n 0, 1) := dk_42 (dk_at dksX21_than_1 19 rfl rfl)
theorem dX21_than_43 : decode cX21_than 43 = .ok (.invokevirtual 15, 3) := dk_182 0 15 (dk_at dksX21_than_1 20 rfl rfl)
theorem dX21_than_46 : decode cX21_than 46 = .ok (.new 113, 3) := dk_187 0 113 (dk_at dksX21_than_2 0 rfl rfl)
theorem dX21_than_49 : decode cX21_than 49 = .ok (.dup, 1) := dk_89 (dk_at dksX21_than_2 3 rfl rfl)
theorem dX21_than_50 : decode cX21_than 50 = .ok (.iload_n 1, 1) := dk_27 (dk_at dksX21_than_2 4 rfl rfl)
theorem dX21_than_51 : decode cX21_than 51 = .ok (.iload_n 2, 1) := dk_28 (dk_at dksX21_than_2 5 rfl rfl)
theorem dX21_than_52 : decode cX21_than 52 = .ok (.aload_n 0, 1) := dk_42 (dk_at dksX21_than_2 6 rfl rfl)
theorem dX21_than_53 : decode cX21_than 53 = .ok (.iconst 0, 1) := dk_3 (dk_at dksX21_than_2 7 rfl rfl)
theorem dX21_than_54 : decode cX21_than 54 = .ok (.sipush 999, 3) := dk_17 3 231 (dk_at dksX21_than_2 8 rfl rfl)
theorem dX21_than_57 : decode cX21_than 57 = .ok (.invokevirtual 115, 3) := dk_182 0 115 (dk_at dksX21_than_2 11 rfl rfl)
theorem dX21_than_60 : decode cX21_than 60 = .ok (.invokespecial 118, 3) := dk_183 0 118 (dk_at dksX21_than_2 14 rfl rfl)
theorem dX21_than_63 : decode cX21_than 63 = .ok (.areturn, 1) := dk_176 (dk_at dksX21_than_2 17 rfl rfl)
theorem fw_X21_23 : cz_FW "HeldCoats$SentenceReader" 23 [(18, 4)] "I" := ⟨"HeldCoats$SentenceReader", "kind", Or.inl q478, List.forall_mem_cons.mpr ⟨⟨RX21, TX21, 12, rfl, by decide, rfl, rfl, Or.inr q479⟩, fun _ h => absurd h List.not_mem_nil⟩, by decide⟩
theorem fw_X21_56 : cz_FW "HeldCoats$SentenceReader" 56 [(18, 7)] "I" := ⟨"HeldCoats$SentenceReader", "sign", Or.inl q484, List.forall_mem_cons.mpr ⟨⟨RX21, TX21, 12, rfl, by decide, rfl, rfl, Or.inr q485⟩, fun _ h => absurd h List.not_mem_nil⟩, by decide⟩
theorem se_HeldCoats_SentenceReader_need__ZI_V_HeldCoats_Reader : ∀ c ∈ ([18] : List Nat), ∃ q : vw_C, cz_cl[c]? = some q ∧ Cond.selects q.1 (⟨"HeldCoats$SentenceReader", "need", "(ZI)V"⟩ : MethodName) (⟨"HeldCoats$Reader", "need", "(ZI)V"⟩ : MethodName) ∈ lw_all := List.forall_mem_cons.mpr ⟨⟨_, cz_cl18, q1689⟩, fun _ h => absurd h List.not_mem_nil⟩
theorem nh_HeldCoats_SentenceReader_need__ZI_V : cz_nh ⟨"HeldCoats$SentenceReader", "need", "(ZI)V"⟩ 2 := ⟨by decide, by decide, by decide +kernel⟩
theorem se_HeldCoats_SentenceReader_go___V_HeldCoats_Reader : ∀ c ∈ ([18] : List Nat), ∃ q : vw_C, cz_cl[c]? = some q ∧ Cond.selects q.1 (⟨"HeldCoats$SentenceReader", "go", "()V"⟩ : MethodName) (⟨"HeldCoats$Reader", "go", "()V"⟩ : MethodName) ∈ lw_all := List.forall_mem_cons.mpr ⟨⟨_, cz_cl18, q1658⟩, fun _ h => absurd h List.not_mem_nil⟩
theorem nh_HeldCoats_SentenceReader_go___V : cz_nh ⟨"HeldCoats$SentenceReader", "go", "()V"⟩ 0 := ⟨by decide, by decide, by decide +kernel⟩
theorem se_HeldCoats_SentenceReader_number__II_I_HeldCoats_Reader : ∀ c ∈ ([18] : List Nat), ∃ q : vw_C, cz_cl[c]? = some q ∧ Cond.selects q.1 (⟨"HeldCoats$SentenceReader", "number", "(II)I"⟩ : MethodName) (⟨"HeldCoats$Reader", "number", "(II)I"⟩ : MethodName) ∈ lw_all := List.forall_mem_cons.mpr ⟨⟨_, cz_cl18, q1741⟩, fun _ h => absurd h List.not_mem_nil⟩
theorem nh_HeldCoats_SentenceReader_number__II_I : cz_nh ⟨"HeldCoats$SentenceReader", "number", "(II)I"⟩ 2 := ⟨by decide, by decide, by decide +kernel⟩
theorem nh_HeldCoats_Than__init___III_V : cz_nh ⟨"HeldCoats$Than", "<init>", "(III)V"⟩ 3 := ⟨by decide, by decide, by decide +kernel⟩
set_option maxHeartbeats 4000000 in
set_option maxRecDepth 100000 in
noncomputable def fn_X21_than (l0 : Option Nat) (l1 : Int32) (h : cz_H) : cz_Z := cz_getI h l0 [(18, 4)] (fun x1 => cz_jn (fun (v2 : Int32) (h3 : cz_H) => cz_rc h3 l0 [18] (cz_xV (fn_X6_need l0 v2 1 h3) (fun q11 h12 => cz_thr q11 h12) (fun h10 => cz_getI h10 l0 [(18, 7)] (fun x13 => cz_rc h10 l0 [18] (cz_cV (fn_X6_go l0 h10) (fun h20 => cz_newo h20 22 3 (fun r21 h22 => cz_rc h22 l0 [18] (cz_xI (fn_X6_number l0 0 999 h22) (fun q30 h31 => cz_thr q30 h31) (fun x32 h29 => cz_nn' r21 (cz_cV (fn_X26_init r21 l1 x13 x32 h29) (fun h35 => some (.inl (some (cz_r r21)), h35)))))))))))) (fun j36 => cz_jn (fun (h37 : cz_H) => j36 0 h37) (fun j38 => (if x1 = 6 then cz_getI h l0 [(18, 7)] (fun x39 => (if x39 = 40 then j38 h else cz_getI h l0 [(18, 7)] (fun x40 => (if x40 = 41 then j38 h else j36 1 h)))) else j38 h))))
set_option maxHeartbeats 4000000 in
set_option maxRecDepth 100000 in
theorem wk_X21_than {K : cz_K} {D : cz_D} {h0 : cz_H} {oh : cz_O × cz_H} {l0 : Option Nat} {l1 : Int32} {h : cz_H} (S : cz_S K D h0 cX21_than 3 "HeldCoats$SentenceReader" ((Option.some (Jvm.ClassFile.FieldType.object "HeldCoats$Cond"))) "than" ([])) : cz_T K D 10 h0 oh 3 (fn_X21_than l0 l1 h) h 0 [(0, cz_r l0), (1, cz_i l1)] [] := by
  unfold fn_X21_than
  refine ct_aload_n (k := 0) S dX21_than_0 rfl rfl ?_
  refine ct_aload_n (k := 0) S dX21_than_1 rfl rfl ?_
  refine ct_getI S fw_X21_23 dX21_than_2 (fun x1 => ?_)
  refine ct_bipush (v := 6) S dX21_than_5 kB_6 ?_
  refine ct_jnP (fun j36 => ∀ (v2 : Int32) (h3 : cz_H), cz_T K D 10 h0 oh 3 (j36 v2 h3) h3 33 [(0, cz_r l0), (1, cz_i l1)] [cz_i v2, cz_r l0]) (fun v2 h3 => ?_) (fun j36 Hj36 => ?_)
  · refine ct_iconst (v := 1) S dX21_than_33 kI_1 ?_
    refine ct_rc (fun b4 ci5 V6 hb7 hc8 hi9 => ?_)
    refine ct_xV (st := []) (cg_up (owner := "HeldCoats$Reader") (av := [cz_i v2, cz_i 1]) S hb7 hc8 hi9 (fun _ e => mt_X6_need e) q750 q1687 q1688 (Or.inl q747) ⟨by decide, by decide⟩ q749 q124 nh_HeldCoats_SentenceReader_need__ZI_V se_HeldCoats_SentenceReader_need__ZI_V_HeldCoats_Reader (by decide) (by decide) (Nat.le_of_ble_eq_true rfl) rfl dX21_than_34) (fun q11 h12 => ?_) (fun h10 => ?_)
    · exact ct_out S (fun x hx => by cases hx)
    · refine ct_aload_n (k := 0) S dX21_than_37 rfl rfl ?_
      refine ct_getI S fw_X21_56 dX21_than_38 (fun x13 => ?_)
      refine ct_istore_n (L' := [(2, cz_i x13), (0, cz_r l0), (1, cz_i l1)]) S dX21_than_41 rfl (by decide) rfl ?_
      refine ct_aload_n (k := 1) S dX21_than_42 rfl rfl ?_
      refine ct_rc (fun b14 ci15 V16 hb17 hc18 hi19 => ?_)
      refine ct_cV (st := []) (cg_up (owner := "HeldCoats$Reader") (av := []) S hb17 hc18 hi19 (fun _ e => mt_X6_go e) q521 q1656 q1657 (Or.inl q518) ⟨by decide, by decide⟩ q520 q124 nh_HeldCoats_SentenceReader_go___V se_HeldCoats_SentenceReader_go___V_HeldCoats_Reader (by decide) (by decide) (Nat.le_of_ble_eq_true rfl) rfl dX21_than_43) (fun h20 => ?_)
      refine ct_newo S (by decide) cz_cl22 q1737 dX21_than_46 (fun r21 h22 => ?_)
      refine ct_dup S dX21_than_49 rfl ?_
      refine ct_iload_n (k := 2) S dX21_than_50 rfl rfl ?_
      refine ct_iload_n (k := 0) S dX21_than_51 rfl rfl ?_
      refine ct_aload_n (k := 1) S dX21_than_52 rfl rfl ?_
      refine ct_iconst (v := 0) S dX21_than_53 kI_0 ?_
      refine ct_sipush (v := 999) S dX21_than_54 kS_999 ?_
      refine ct_rc (fun b23 ci24 V25 hb26 hc27 hi28 => ?_)
      refine ct_xI (st := [cz_i x13, cz_i l1, cz_r r21, cz_r r21]) (cg_up (owner := "HeldCoats$Reader") (av := [cz_i 0, cz_i 999]) S hb26 hc27 hi28 (fun _ e => mt_X6_number e) q919 q1739 q1740 (Or.inl q916) ⟨by decide, by decide⟩ q918 q124 nh_HeldCoats_SentenceReader_number__II_I se_HeldCoats_SentenceReader_number__II_I_HeldCoats_Reader (by decide) (by decide) (Nat.le_of_ble_eq_true rfl) rfl dX21_than_57) (fun q30 h31 => ?_) (fun x32 h29 => ?_)
      · exact ct_out S (fun x hx => by cases hx)
      · refine ct_nn (fun b33 hb34 => ?_)
        refine ct_cV (st := [cz_r r21]) (cg_init (av := [cz_i l1, cz_i x13, cz_i x32]) S hb34 (fun _ e => mt_X26_init e) q1744 (Or.inl q1742) rfl q1743 q157 nh_HeldCoats_Than__init___III_V (by decide) (by decide) (Nat.le_of_ble_eq_true rfl) rfl dX21_than_60) (fun h35 => ?_)
        exact ct_aret S rfl (Or.inl ⟨_, rfl⟩) dX21_than_63
  · refine ct_jnP (fun j38 => ∀ (h37 : cz_H), cz_T K D 10 h0 oh 3 (j38 h37) h37 32 [(0, cz_r l0), (1, cz_i l1)] [cz_r l0]) (fun h37 => ?_) (fun j38 Hj38 => ?_)
    · refine ct_iconst (v := 0) S dX21_than_32 kI_0 ?_
      exact Hj36 0 h37
    · refine ct_icmp_ne (tgt := 32) S dX21_than_7 (by decide) ?_ ?_
      · exact Hj38 h
      · refine ct_aload_n (k := 0) S dX21_than_10 rfl rfl ?_
        refine ct_getI S fw_X21_56 dX21_than_11 (fun x39 => ?_)
        refine ct_bipush (v := 40) S dX21_than_14 kB_40 ?_
        refine ct_icmp_eq (tgt := 32) S dX21_than_16 (by decide) ?_ ?_
        · exact Hj38 h
        · refine ct_aload_n (k := 0) S dX21_than_19 rfl rfl ?_
          refine ct_getI S fw_X21_56 dX21_than_20 (fun x40 => ?_)
          refine ct_bipush (v := 41) S dX21_than_23 kB_41 ?_
          refine ct_icmp_eq (tgt := 32) S dX21_than_25 (by decide) ?_ ?_
          · exact Hj38 h
          · refine ct_iconst (v := 1) S dX21_than_28 kI_1 ?_
            refine ct_goto (tgt := 33) S dX21_than_29 (by decide) ?_
            exact Hj36 1 h
theorem mt_X21_than {l : Launch} {D : cz_D} {l0 : Option Nat} {l1 : Int32} {h : cz_H} {oh : cz_O × cz_H} (hz : fn_X21_than l0 l1 h = some oh) : cz_M l D yX21_than (ws_ yX21_than cX21_than 3 ((Option.some (Jvm.ClassFile.FieldType.object "HeldCoats$Cond")))) 10 [cz_r l0, cz_i l1] h oh := cz_met (plainFor_of_name (by decide)) (Nat.le_of_ble_eq_true rfl) hz (fun K hl S => wk_X21_than S)
/-! HeldCoats$Not.<init>(LHeldCoats$Cond;)V -/
def dkwX23_init_0 : List UInt8 := [42, 183, 0, 1, 42, 43, 181, 0, 7, 177]
abbrev dktX23_init_0 : List UInt8 := dkwX23_init_0 ++ []
theorem dksX23_init_0 : cX23_init.data.toList.drop 0 = dktX23_init_0 := by decide +kernel
theorem dX23_init_0 : decode cX23_init 0 = .ok (.aload_n 0, 1) := dk_42 (dk_at dksX23_init_0 0 rfl rfl)
theorem dX23_init_1 : decode cX23_init 1 = .ok (.invokespecial 1, 3) := dk_183 0 1 (dk_at dksX23_init_0 1 rfl rfl)
theorem dX23_init_4 : decode cX23_init 4 = .ok (.aload_n 0, 1) := dk_42 (dk_at dksX23_init_0 4 rfl rfl)
theorem dX23_init_5 : decode cX23_init 5 = .ok (.aload_n 1, 1) := dk_43 (dk_at dksX23_init_0 5 rfl rfl)
theorem dX23_init_6 : decode cX23_init 6 = .ok (.putfield 7, 3) := dk_181 0 7 (dk_at dksX23_init_0 6 rfl rfl)
theorem dX23_init_9 : decode cX23_init 9 = .ok (.return_, 1) := dk_177 (dk_at dksX23_init_0 9 rfl rfl)
theorem fp_X23_i_19_0 : cz_FP "HeldCoats$Not" "<init>" [(19, 0)] := List.forall_mem_cons.mpr ⟨⟨RX23, TX23, 1, rfl, Or.inr ⟨rfl, rfl, rfl⟩⟩, fun _ h => absurd h List.not_mem_nil⟩
set_option maxHeartbeats 4000000 in
set_option maxRecDepth 100000 in
noncomputable def fn_X23_init (l0 : Option Nat) (l1 : Option Nat) (h : cz_H) : cz_Z := cz_nn' l0 (cz_cV (fn_X22_init l0 h) (fun h3 => cz_put h3 l0 [(19, 0)] (cz_r l1) (fun h4 => some (.inl none, h4))))
set_option maxHeartbeats 4000000 in
set_option maxRecDepth 100000 in
theorem wk_X23_init {K : cz_K} {D : cz_D} {h0 : cz_H} {oh : cz_O × cz_H} {l0 : Option Nat} {l1 : Option Nat} {h : cz_H} (S : cz_S K D h0 cX23_init 2 "HeldCoats$Not" ((Option.none : Option Jvm.ClassFile.FieldType)) "<init>" ([])) : cz_T K D 4 h0 oh 2 (fn_X23_init l0 l1 h) h 0 [(0, cz_r l0), (1, cz_r l1)] [] := by
  unfold fn_X23_init
  refine ct_aload_n (k := 0) S dX23_init_0 rfl rfl ?_
  refine ct_nn (fun b1 hb2 => ?_)
  refine ct_cV (st := []) (cg_init (av := []) S hb2 (fun _ e => mt_X22_init e) q1701 (Or.inr ⟨_, q1699⟩) rfl q1700 q153 nh_HeldCoats_Cond__init____V (by decide) (by decide) (Nat.le_of_ble_eq_true rfl) rfl dX23_init_1) (fun h3 => ?_)
  refine ct_aload_n (k := 0) S dX23_init_4 rfl rfl ?_
  refine ct_aload_n (k := 1) S dX23_init_5 rfl rfl ?_
  refine ct_put S fw_X23_7 fp_X23_i_19_0 (cz_fits_r pd_LHeldCoats_Cond_) dX23_init_6 (fun h4 => ?_)
  exact ct_vret S rfl dX23_init_9
theorem mt_X23_init {l : Launch} {D : cz_D} {l0 : Option Nat} {l1 : Option Nat} {h : cz_H} {oh : cz_O × cz_H} (hz : fn_X23_init l0 l1 h = some oh) : cz_M l D yX23_init (ws_ yX23_init cX23_init 2 ((Option.none : Option Jvm.ClassFile.FieldType))) 4 [cz_r l0, cz_r l1] h oh := cz_met (plainFor_of_name (by decide)) (Nat.le_of_ble_eq_true rfl) hz (fun K hl S => wk_X23_init S)
/-! HeldCoats$IsSo.<init>(Z)V -/
def dkwX24_init_0 : List UInt8 := [42, 183, 0, 3, 42, 27, 181, 0, 9, 177]
abbrev dktX24_init_0 : List UInt8 := dkwX24_init_0 ++ []
theorem dksX24_init_0 : cX24_init.data.toList.drop 0 = dktX24_init_0 := by decide +kernel
theorem dX24_init_0 : decode cX24_init 0 = .ok (.aload_n 0, 1) := dk_42 (dk_at dksX24_init_0 0 rfl rfl)
theorem dX24_init_1 : decode cX24_init 1 = .ok (.invokespecial 3, 3) := dk_183 0 3 (dk_at dksX24_init_0 1 rfl rfl)
theorem dX24_init_4 : decode cX24_init 4 = .ok (.aload_n 0, 1) := dk_42 (dk_at dksX24_init_0 4 rfl rfl)
theorem dX24_init_5 : decode cX24_init 5 = .ok (.iload_n 1, 1) := dk_27 (dk_at dksX24_init_0 5 rfl rfl)
theorem dX24_init_6 : decode cX24_init 6 = .ok (.putfield 9, 3) := dk_181 0 9 (dk_at dksX24_init_0 6 rfl rfl)
theorem dX24_init_9 : decode cX24_init 9 = .ok (.return_, 1) := dk_177 (dk_at dksX24_init_0 9 rfl rfl)
theorem fp_X24_i_20_0 : cz_FP "HeldCoats$IsSo" "<init>" [(20, 0)] := List.forall_mem_cons.mpr ⟨⟨RX24, TX24, 1, rfl, Or.inr ⟨rfl, rfl, rfl⟩⟩, fun _ h => absurd h List.not_mem_nil⟩
set_option maxHeartbeats 4000000 in
set_option maxRecDepth 100000 in
noncomputable def fn_X24_init (l0 : Option Nat) (l1 : Int32) (h : cz_H) : cz_Z := cz_nn' l0 (cz_cV (fn_X22_init l0 h) (fun h3 => cz_ckz l1 (cz_put h3 l0 [(20, 0)] (cz_i l1) (fun h4 => some (.inl none, h4)))))
set_option maxHeartbeats 4000000 in
set_option maxRecDepth 100000 in
theorem wk_X24_init {K : cz_K} {D : cz_D} {h0 : cz_H} {oh : cz_O × cz_H} {l0 : Option Nat} {l1 : Int32} {h : cz_H} (S : cz_S K D h0 cX24_init 2 "HeldCoats$IsSo" ((Option.none : Option Jvm.ClassFile.FieldType)) "<init>" ([])) : cz_T K D 4 h0 oh 2 (fn_X24_init l0 l1 h) h 0 [(0, cz_r l0), (1, cz_i l1)] [] := by
  unfold fn_X24_init
  refine ct_aload_n (k := 0) S dX24_init_0 rfl rfl ?_
  refine ct_nn (fun b1 hb2 => ?_)
  refine ct_cV (st := []) (cg_init (av := []) S hb2 (fun _ e => mt_X22_init e) q1701 (Or.inr ⟨_, q1712⟩) rfl q1700 q153 nh_HeldCoats_Cond__init____V (by decide) (by decide) (Nat.le_of_ble_eq_true rfl) rfl dX24_init_1) (fun h3 => ?_)
  refine ct_aload_n (k := 0) S dX24_init_4 rfl rfl ?_
  refine ct_iload_n (k := 1) S dX24_init_5 rfl rfl ?_
  refine ct_ckz (fun hx => ?_)
  refine ct_put S fw_X24_9 fp_X24_i_20_0 (cz_fits_z pd_Z hx) dX24_init_6 (fun h4 => ?_)
  exact ct_vret S rfl dX24_init_9
theorem mt_X24_init {l : Launch} {D : cz_D} {l0 : Option Nat} {l1 : Int32} {h : cz_H} {oh : cz_O × cz_H} (hz : fn_X24_init l0 l1 h = some oh) : cz_M l D yX24_init (ws_ yX24_init cX24_init 2 ((Option.none : Option Jvm.ClassFile.FieldType))) 4 [cz_r l0, cz_i l1] h oh := cz_met (plainFor_of_name (by decide)) (Nat.le_of_ble_eq_true rfl) hz (fun K hl S => wk_X24_init S)
/-! HeldCoats$Of.<init>(ZI)V -/
def dkwX25_init_0 : List UInt8 := [42, 183, 0, 1, 42, 27, 181, 0, 7, 42, 28, 181, 0, 13, 177]
abbrev dktX25_init_0 : List UInt8 := dkwX25_init_0 ++ []
theorem dksX25_init_0 : cX25_init.data.toList.drop 0 = dktX25_init_0 := by decide +kernel
theorem dX25_init_0 : decode cX25_init 0 = .ok (.aload_n 0, 1) := dk_42 (dk_at dksX25_init_0 0 rfl rfl)
theorem dX25_init_1 : decode cX25_init 1 = .ok (.invokespecial 1, 3) := dk_183 0 1 (dk_at dksX25_init_0 1 rfl rfl)
theorem dX25_init_4 : decode cX25_init 4 = .ok (.aload_n 0, 1) := dk_42 (dk_at dksX25_init_0 4 rfl rfl)
theorem dX25_init_5 : decode cX25_init 5 = .ok (.iload_n 1, 1) := dk_27 (dk_at dksX25_init_0 5 rfl rfl)
theorem dX25_init_6 : decode cX25_init 6 = .ok (.putfield 7, 3) := dk_181 0 7 (dk_at dksX25_init_0 6 rfl rfl)
theorem dX25_init_9 : decode cX25_init 9 = .ok (.aload_n 0, 1) := dk_42 (dk_at dksX25_init_0 9 rfl rfl)
theorem dX25_init_10 : decode cX25_init 10 = .ok (.iload_n 2, 1) := dk_28 (dk_at dksX25_init_0 10 rfl rfl)
theorem dX25_init_11 : decode cX25_init 11 = .ok (.putfield 13, 3) := dk_181 0 13 (dk_at dksX25_init_0 11 rfl rfl)
theorem dX25_init_14 : decode cX25_init 14 = .ok (.return_, 1) := dk_177 (dk_at dksX25_init_0 14 rfl rfl)
theorem fp_X25_i_21_0 : cz_FP "HeldCoats$Of" "<init>" [(21, 0)] := List.forall_mem_cons.mpr ⟨⟨RX25, TX25, 2, rfl, Or.inr ⟨rfl, rfl, rfl⟩⟩, fun _ h => absurd h List.not_mem_nil⟩
theorem fp_X25_i_21_1 : cz_FP "HeldCoats$Of" "<init>" [(21, 1)] := List.forall_mem_cons.mpr ⟨⟨RX25, TX25, 2, rfl, Or.inr ⟨rfl, rfl, rfl⟩⟩, fun _ h => absurd h List.not_mem_nil⟩
set_option maxHeartbeats 4000000 in
set_option maxRecDepth 100000 in
noncomputable def fn_X25_init (l0 : Option Nat) (l1 : Int32) (l2 : Int32) (h : cz_H) : cz_Z := cz_nn' l0 (cz_cV (fn_X22_init l0 h) (fun h3 => cz_ckz l1 (cz_put h3 l0 [(21, 0)] (cz_i l1) (fun h4 => cz_put h4 l0 [(21, 1)] (cz_i l2) (fun h5 => some (.inl none, h5))))))
set_option maxHeartbeats 4000000 in
set_option maxRecDepth 100000 in
theorem wk_X25_init {K : cz_K} {D : cz_D} {h0 : cz_H} {oh : cz_O × cz_H} {l0 : Option Nat} {l1 : Int32} {l2 : Int32} {h : cz_H} (S : cz_S K D h0 cX25_init 3 "HeldCoats$Of" ((Option.none : Option Jvm.ClassFile.FieldType)) "<init>" ([])) : cz_T K D 4 h0 oh 3 (fn_X25_init l0 l1 l2 h) h 0 [(0, cz_r l0), (1, cz_i l1), (2, cz_i l2)] [] := by
  unfold fn_X25_init
  refine ct_aload_n (k := 0) S dX25_init_0 rfl rfl ?_
  refine ct_nn (fun b1 hb2 => ?_)
  refine ct_cV (st := []) (cg_init (av := []) S hb2 (fun _ e => mt_X22_init e) q1701 (Or.inr ⟨_, q1725⟩) rfl q1700 q153 nh_HeldCoats_Cond__init____V (by decide) (by decide) (Nat.le_of_ble_eq_true rfl) rfl dX25_init_1) (fun h3 => ?_)
  refine ct_aload_n (k := 0) S dX25_init_4 rfl rfl ?_
  refine ct_iload_n (k := 1) S dX25_init_5 rfl rfl ?_
  refine ct_ckz (fun hx => ?_)
  refine ct_put S fw_X25_7 fp_X25_i_21_0 (cz_fits_z pd_Z hx) dX25_init_6 (fun h4 => ?_)
  refine ct_aload_n (k := 0) S dX25_init_9 rfl rfl ?_
  refine ct_iload_n (k := 2) S dX25_init_10 rfl rfl ?_
  refine ct_put S fw_X25_13 fp_X25_i_21_1 (cz_fits_i pd_I) dX25_init_11 (fun h5 => ?_)
  exact ct_vret S rfl dX25_init_14
theorem mt_X25_init {l : Launch} {D : cz_D} {l0 : Option Nat} {l1 : Int32} {l2 : Int32} {h : cz_H} {oh : cz_O × cz_H} (hz : fn_X25_init l0 l1 l2 h = some oh) : cz_M l D yX25_init (ws_ yX25_init cX25_init 3 ((Option.none : Option Jvm.ClassFile.FieldType))) 4 [cz_r l0, cz_i l1, cz_i l2] h oh := cz_met (plainFor_of_name (by decide)) (Nat.le_of_ble_eq_true rfl) hz (fun K hl S => wk_X25_init S)
/-! HeldCoats$SentenceReader.or()LHeldCoats$Cond; -/
def dkwX21_or_1 : List UInt8 := [182, 0, 31, 3, 183, 0, 41, 76, 167, 255, 229, 43, 176]
abbrev dktX21_or_1 : List UInt8 := dkwX21_or_1 ++ []
def dkwX21_or_0 : List UInt8 := [42, 182, 0, 31, 76, 42, 18, 34, 182, 0, 35, 153, 0, 24, 42, 182, 0, 15, 187, 0, 39, 89, 43, 42]
abbrev dktX21_or_0 : List UInt8 := dkwX21_or_0 ++ dktX21_or_1
theorem dksX21_or_0 : cX21_or.data.toList.drop 0 = dktX21_or_0 := by decide +kernel
theorem dksX21_or_1 : cX21_or.data.toList.drop 24 = dktX21_or_1 := dk_seg dksX21_or_0 24 rfl rfl
theorem dX21_or_0 : decode cX21_or 0 = .ok (.aload_n 0, 1) := dk_42 (dk_at dksX21_or_0 0 rfl rfl)
theorem dX21_or_1 : decode cX21_or 1 = .ok (.invokevirtual 31, 3) := dk_182 0 31 (dk_at dksX21_or_0 1 rfl rfl)
theorem dX21_or_4 : decode cX21_or 4 = .ok (.astore_n 1, 1) := dk_76 (dk_at dksX21_or_0 4 rfl rfl)
theorem dX21_or_5 : decode cX21_or 5 = .ok (.aload_n 0, 1) := dk_42 (dk_at dksX21_or_0 5 rfl rfl)
theorem dX21_or_6 : decode cX21_or 6 = .ok (.ldc 34, 2) := dk_18 34 (dk_at dksX21_or_0 6 rfl rfl)
theorem dX21_or_8 : decode cX21_or 8 = .ok (.invokevirtual 35, 3) := dk_182 0 35 (dk_at dksX21_or_0 8 rfl rfl)
theorem dX21_or_11 : decode cX21_or 11 = .ok (.ifCond .eq 24, 3) := dk_153 0 24 (dk_at dksX21_or_0 11 rfl rfl)
theorem dX21_or_14 : decode cX21_or 14 = .ok (.aload_n 0, 1) := dk_42 (dk_at dksX21_or_0 14 rfl rfl)
theorem dX21_or_15 : decode cX21_or 15 = .ok (.invokevirtual 15, 3) := dk_182 0 15 (dk_at dksX21_or_0 15 rfl rfl)
theorem dX21_or_18 : decode cX21_or 18 = .ok (.new 39, 3) := dk_187 0 39 (dk_at dksX21_or_0 18 rfl rfl)
theorem dX21_or_21 : decode cX21_or 21 = .ok (.dup, 1) := dk_89 (dk_at dksX21_or_0 21 rfl rfl)
theorem dX21_or_22 : decode cX21_or 22 = .ok (.aload_n 1, 1) := dk_43 (dk_at dksX21_or_0 22 rfl rfl)
theorem dX21_or_23 : decode cX21_or 23 = .ok (.aload_n 0, 1) := dk_42 (dk_at dksX21_or_0 23 rfl rfl)
theorem dX21_or_24 : decode cX21_or 24 = .ok (.invokevirtual 31, 3) := dk_182 0 31 (dk_at dksX21_or_1 0 rfl rfl)
theorem dX21_or_27 : decode cX21_or 27 = .ok (.iconst 0, 1) := dk_3 (dk_at dksX21_or_1 3 rfl rfl)
theorem dX21_or_28 : decode cX21_or 28 = .ok (.invokespecial 41, 3) := dk_183 0 41 (dk_at dksX21_or_1 4 rfl rfl)
theorem dX21_or_31 : decode cX21_or 31 = .ok (.astore_n 1, 1) := dk_76 (dk_at dksX21_or_1 7 rfl rfl)
theorem dX21_or_32 : decode cX21_or 32 = .ok (.goto (-27), 3) := dk_167 255 229 (dk_at dksX21_or_1 8 rfl rfl)
theorem dX21_or_35 : decode cX21_or 35 = .ok (.aload_n 1, 1) := dk_43 (dk_at dksX21_or_1 11 rfl rfl)
theorem dX21_or_36 : decode cX21_or 36 = .ok (.areturn, 1) := dk_176 (dk_at dksX21_or_1 12 rfl rfl)
theorem se_HeldCoats_SentenceReader_and___LHeldCoats_Cond__HeldCoats_SentenceReader : ∀ c ∈ ([18] : List Nat), ∃ q : vw_C, cz_cl[c]? = some q ∧ Cond.selects q.1 (⟨"HeldCoats$SentenceReader", "and", "()LHeldCoats$Cond;"⟩ : MethodName) (⟨"HeldCoats$SentenceReader", "and", "()LHeldCoats$Cond;"⟩ : MethodName) ∈ lw_all := List.forall_mem_cons.mpr ⟨⟨_, cz_cl18, qs39⟩, fun _ h => absurd h List.not_mem_nil⟩
theorem md_X21_and : cz_md yX21_and 2 (ws_ yX21_and cX21_and 2 ((Option.some (Jvm.ClassFile.FieldType.object "HeldCoats$Cond")))) 0 := ⟨cz_ws_code q1666, q152, ⟨by decide, by decide, by decide +kernel⟩, by decide⟩
theorem nh_HeldCoats_Two__init___LHeldCoats_Cond_LHeldCoats_Cond_Z_V : cz_nh ⟨"HeldCoats$Two", "<init>", "(LHeldCoats$Cond;LHeldCoats$Cond;Z)V"⟩ 3 := ⟨by decide, by decide, by decide +kernel⟩
set_option maxHeartbeats 4000000 in
set_option maxRecDepth 100000 in
noncomputable def fn_X21_or_5 (F : Nat → Option Nat → cz_H → cz_Z) (l0 : Option Nat) (k0 : Option Nat → cz_H → cz_Z) : Nat → Option Nat → cz_H → cz_Z
  | 0, _, _ => none
  | n + 1, l1, h => cz_rc h l0 [18] (cz_cI (fn_X6_is l0 (h.1.2.2.2 26) h) (fun x18 h17 => (if x18 = 0 then k0 l1 h17 else cz_rc h17 l0 [18] (cz_cV (fn_X6_go l0 h17) (fun h25 => cz_newo h25 23 3 (fun r26 h27 => cz_rc h27 l0 [18] (cz_xR (F 1 l0 h27) (fun q35 h36 => cz_thr q35 h36) (fun r37 h34 => cz_nn' r26 (cz_cV (fn_X27_init r26 l1 r37 0 h34) (fun h40 => fn_X21_or_5 F l0 k0 n r26 h40))))))))))
set_option maxHeartbeats 4000000 in
set_option maxRecDepth 100000 in
theorem wk_X21_or_5 {K : cz_K} {D : cz_D} {h0 : cz_H} {oh : cz_O × cz_H} {dd : Nat} {F : Nat → Option Nat → cz_H → cz_Z} {l0 : Option Nat} {k0 : Option Nat → cz_H → cz_Z} (hdd : 11 ≤ dd) (HF0 : ∀ (r : Option Nat) (h : cz_H) (oh' : cz_O × cz_H), F 0 r h = some oh' → cz_M K.2.1 D yX21_or (ws_ yX21_or cX21_or 2 ((Option.some (Jvm.ClassFile.FieldType.object "HeldCoats$Cond")))) dd [cz_r r] h oh') (HF1 : ∀ (r : Option Nat) (h : cz_H) (oh' : cz_O × cz_H), F 1 r h = some oh' → cz_M K.2.1 D yX21_and (ws_ yX21_and cX21_and 2 ((Option.some (Jvm.ClassFile.FieldType.object "HeldCoats$Cond")))) dd [cz_r r] h oh') (HF2 : ∀ (r : Option Nat) (h : cz_H) (oh' : cz_O × cz_H), F 2 r h = some oh' → cz_M K.2.1 D yX21_says (ws_ yX21_says cX21_says 9 ((Option.some (Jvm.ClassFile.FieldType.object "HeldCoats$Cond")))) dd [cz_r r] h oh') (HF3 : ∀ (r : Option Nat) (h : cz_H) (oh' : cz_O × cz_H), F 3 r h = some oh' → cz_M K.2.1 D yX21_bracket (ws_ yX21_bracket cX21_bracket 2 ((Option.some (Jvm.ClassFile.FieldType.object "HeldCoats$Cond")))) dd [cz_r r] h oh') (S : cz_S K D h0 cX21_or 2 "HeldCoats$SentenceReader" ((Option.some (Jvm.ClassFile.FieldType.object "HeldCoats$Cond"))) "or" ([])) (hk0 : ∀ (e1 : Option Nat) (h : cz_H), cz_T K D (dd + 1) h0 oh 2 (k0 e1 h) h 35 [(1, cz_r e1)] []) : ∀ (n : Nat) (l1 : Option Nat) (h : cz_H), cz_T K D (dd + 1) h0 oh 2 (fn_X21_or_5 F l0 k0 n l1 h) h 5 [(0, cz_r l0), (1, cz_r l1)] [] := by
  intro n
  induction n with
  | zero => intros; exact ct_none
  | succ n ih =>
    intro l1 h
    rw [fn_X21_or_5]
    refine ct_aload_n (k := 0) S dX21_or_5 rfl rfl ?_
    refine ct_ldcS (i := 26) S rfl dX21_or_6 ?_
    refine ct_rc (fun b11 ci12 V13 hb14 hc15 hi16 => ?_)
    refine ct_cI (st := []) (cg_up (owner := "HeldCoats$Reader") (av := [cz_r (h.1.2.2.2 26)]) S hb14 hc15 hi16 (fun _ e => mt_X6_is e) q727 q1672 q1673 (Or.inl q724) ⟨by decide, by decide⟩ q726 q124 nh_HeldCoats_SentenceReader_is__Ljava_lang_String__Z se_HeldCoats_SentenceReader_is__Ljava_lang_String__Z_HeldCoats_Reader (by decide) (by omega) (Nat.le_of_ble_eq_true rfl) rfl dX21_or_8) (fun x18 h17 => ?_)
    refine ct_if_eq (tgt := 35) S dX21_or_11 (by decide) ?_ ?_
    · exact ct_sub [1] rfl (hk0 l1 h17)
    · refine ct_aload_n (k := 0) S dX21_or_14 rfl rfl ?_
      refine ct_rc (fun b19 ci20 V21 hb22 hc23 hi24 => ?_)
      refine ct_cV (st := []) (cg_up (owner := "HeldCoats$Reader") (av := []) S hb22 hc23 hi24 (fun _ e => mt_X6_go e) q521 q1656 q1657 (Or.inl q518) ⟨by decide, by decide⟩ q520 q124 nh_HeldCoats_SentenceReader_go___V se_HeldCoats_SentenceReader_go___V_HeldCoats_Reader (by decide) (by omega) (Nat.le_of_ble_eq_true rfl) rfl dX21_or_15) (fun h25 => ?_)
      refine ct_newo S (by decide) cz_cl23 q1757 dX21_or_18 (fun r26 h27 => ?_)
      refine ct_dup S dX21_or_21 rfl ?_
      refine ct_aload_n (k := 1) S dX21_or_22 rfl rfl ?_
      refine ct_aload_n (k := 0) S dX21_or_23 rfl rfl ?_
      refine ct_rc (fun b28 ci29 V30 hb31 hc32 hi33 => ?_)
      refine ct_xR (st := [cz_r l1, cz_r r26, cz_r r26]) (cg_virtual (av := []) S hb31 hc32 hi33 (fun _ e => HF1 _ _ _ e) md_X21_and q1663 q1665 se_HeldCoats_SentenceReader_and___LHeldCoats_Cond__HeldCoats_SentenceReader (by omega) (Nat.le_of_ble_eq_true rfl) rfl dX21_or_24) (fun q35 h36 => ?_) (fun r37 h34 => ?_)
      · exact ct_out S (fun x hx => by cases hx)
      · refine ct_iconst (v := 0) S dX21_or_27 kI_0 ?_
        refine ct_nn (fun b38 hb39 => ?_)
        refine ct_cV (st := [cz_r r26]) (cg_init (av := [cz_r l1, cz_r r37, cz_i 0]) S hb39 (fun _ e => mt_X27_init e) q1761 (Or.inl q1759) rfl q1760 q158 nh_HeldCoats_Two__init___LHeldCoats_Cond_LHeldCoats_Cond_Z_V (by decide) (by omega) (Nat.le_of_ble_eq_true rfl) rfl dX21_or_28) (fun h40 => ?_)
        refine ct_astore_n (L' := [(1, cz_r r26), (0, cz_r l0)]) S dX21_or_31 rfl (by decide) rfl ?_
        refine ct_goto (tgt := 5) S dX21_or_32 (by decide) ?_
        exact ct_sub [1, 0] rfl (ih r26 h40)
set_option maxHeartbeats 4000000 in
set_option maxRecDepth 100000 in
noncomputable def fn_X21_or_b (F : Nat → Option Nat → cz_H → cz_Z) (l0 : Option Nat) (h : cz_H) : cz_Z := cz_rc h l0 [18] (cz_xR (F 1 l0 h) (fun q8 h9 => cz_thr q8 h9) (fun r10 h7 => fn_X21_or_5 F l0 (fun (e41 : Option Nat) (h42 : cz_H) => some (.inl (some (cz_r e41)), h42)) 1000 r10 h7))
set_option maxHeartbeats 4000000 in
set_option maxRecDepth 100000 in
theorem wk_X21_or {K : cz_K} {D : cz_D} {h0 : cz_H} {oh : cz_O × cz_H} {dd : Nat} {F : Nat → Option Nat → cz_H → cz_Z} {l0 : Option Nat} {h : cz_H} (hdd : 11 ≤ dd) (HF0 : ∀ (r : Option Nat) (h : cz_H) (oh' : cz_O × cz_H), F 0 r h = some oh' → cz_M K.2.1 D yX21_or (ws_ yX21_or cX21_or 2 ((Option.some (Jvm.ClassFile.FieldType.object "HeldCoats$Cond")))) dd [cz_r r] h oh') (HF1 : ∀ (r : Option Nat) (h : cz_H) (oh' : cz_O × cz_H), F 1 r h = some oh' → cz_M K.2.1 D yX21_and (ws_ yX21_and cX21_and 2 ((Option.some (Jvm.ClassFile.FieldType.object "HeldCoats$Cond")))) dd [cz_r r] h oh') (HF2 : ∀ (r : Option Nat) (h : cz_H) (oh' : cz_O × cz_H), F 2 r h = some oh' → cz_M K.2.1 D yX21_says (ws_ yX21_says cX21_says 9 ((Option.some (Jvm.ClassFile.FieldType.object "HeldCoats$Cond")))) dd [cz_r r] h oh') (HF3 : ∀ (r : Option Nat) (h : cz_H) (oh' : cz_O × cz_H), F 3 r h = some oh' → cz_M K.2.1 D yX21_bracket (ws_ yX21_bracket cX21_bracket 2 ((Option.some (Jvm.ClassFile.FieldType.object "HeldCoats$Cond")))) dd [cz_r r] h oh') (S : cz_S K D h0 cX21_or 2 "HeldCoats$SentenceReader" ((Option.some (Jvm.ClassFile.FieldType.object "HeldCoats$Cond"))) "or" ([])) : cz_T K D (dd + 1) h0 oh 2 (fn_X21_or_b F l0 h) h 0 [(0, cz_r l0)] [] := by
  unfold fn_X21_or_b
  refine ct_aload_n (k := 0) S dX21_or_0 rfl rfl ?_
  refine ct_rc (fun b1 ci2 V3 hb4 hc5 hi6 => ?_)
  refine ct_xR (st := []) (cg_virtual (av := []) S hb4 hc5 hi6 (fun _ e => HF1 _ _ _ e) md_X21_and q1663 q1665 se_HeldCoats_SentenceReader_and___LHeldCoats_Cond__HeldCoats_SentenceReader (by omega) (Nat.le_of_ble_eq_true rfl) rfl dX21_or_1) (fun q8 h9 => ?_) (fun r10 h7 => ?_)
  · exact ct_out S (fun x hx => by cases hx)
  · refine ct_astore_n (L' := [(1, cz_r r10), (0, cz_r l0)]) S dX21_or_4 rfl (by decide) rfl ?_
    refine ct_sub [1, 0] (L' := [(0, cz_r l0), (1, cz_r r10)]) rfl (wk_X21_or_5 hdd HF0 HF1 HF2 HF3 S ?_ 1000 r10 h7)
    · intro e41 h42
      refine ct_aload_n (k := 0) S dX21_or_35 rfl rfl ?_
      exact ct_aret S rfl (Or.inl ⟨_, rfl⟩) dX21_or_36
/-! HeldCoats$SentenceReader.and()LHeldCoats$Cond; -/
def dkwX21_and_1 : List UInt8 := [182, 0, 44, 4, 183, 0, 41, 76, 167, 255, 229, 43, 176]
abbrev dktX21_and_1 : List UInt8 := dkwX21_and_1 ++ []
def dkwX21_and_0 : List UInt8 := [42, 182, 0, 44, 76, 42, 18, 47, 182, 0, 35, 153, 0, 24, 42, 182, 0, 15, 187, 0, 39, 89, 43, 42]
abbrev dktX21_and_0 : List UInt8 := dkwX21_and_0 ++ dktX21_and_1
theorem dksX21_and_0 : cX21_and.data.toList.drop 0 = dktX21_and_0 := by decide +kernel
theorem dksX21_and_1 : cX21_and.data.toList.drop 24 = dktX21_and_1 := dk_seg dksX21_and_0 24 rfl rfl
theorem dX21_and_0 : decode cX21_and 0 = .ok (.aload_n 0, 1) := dk_42 (dk_at dksX21_and_0 0 rfl rfl)
theorem dX21_and_1 : decode cX21_and 1 = .ok (.invokevirtual 44, 3) := dk_182 0 44 (dk_at dksX21_and_0 1 rfl rfl)
theorem dX21_and_4 : decode cX21_and 4 = .ok (.astore_n 1, 1) := dk_76 (dk_at dksX21_and_0 4 rfl rfl)
theorem dX21_and_5 : decode cX21_and 5 = .ok (.aload_n 0, 1) := dk_42 (dk_at dksX21_and_0 5 rfl rfl)
theorem dX21_and_6 : decode cX21_and 6 = .ok (.ldc 47, 2) := dk_18 47 (dk_at dksX21_and_0 6 rfl rfl)
theorem dX21_and_8 : decode cX21_and 8 = .ok (.invokevirtual 35, 3) := dk_182 0 35 (dk_at dksX21_and_0 8 rfl rfl)
theorem dX21_and_11 : decode cX21_and 11 = .ok (.ifCond .eq 24, 3) := dk_153 0 24 (dk_at dksX21_and_0 11 rfl rfl)
theorem dX21_and_14 : decode cX21_and 14 = .ok (.aload_n 0, 1) := dk_42 (dk_at dksX21_and_0 14 rfl rfl)
theorem dX21_and_15 : decode cX21_and 15 = .ok (.invokevirtual 15, 3) := dk_182 0 15 (dk_at dksX21_and_0 15 rfl rfl)
theorem dX21_and_18 : decode cX21_and 18 = .ok (.new 39, 3) := dk_187 0 39 (dk_at dksX21_and_0 18 rfl rfl)
theorem dX21_and_21 : decode cX21_and 21 = .ok (.dup, 1) := dk_89 (dk_at dksX21_and_0 21 rfl rfl)
theorem dX21_and_22 : decode cX21_and 22 = .ok (.aload_n 1, 1) := dk_43 (dk_at dksX21_and_0 22 rfl rfl)
theorem dX21_and_23 : decode cX21_and 23 = .ok (.aload_n 0, 1) := dk_42 (dk_at dksX21_and_0 23 rfl rfl)
theorem dX21_and_24 : decode cX21_and 24 = .ok (.invokevirtual 44, 3) := dk_182 0 44 (dk_at dksX21_and_1 0 rfl rfl)
theorem dX21_and_27 : decode cX21_and 27 = .ok (.iconst 1, 1) := dk_4 (dk_at dksX21_and_1 3 rfl rfl)
theorem dX21_and_28 : decode cX21_and 28 = .ok (.invokespecial 41, 3) := dk_183 0 41 (dk_at dksX21_and_1 4 rfl rfl)
theorem dX21_and_31 : decode cX21_and 31 = .ok (.astore_n 1, 1) := dk_76 (dk_at dksX21_and_1 7 rfl rfl)
theorem dX21_and_32 : decode cX21_and 32 = .ok (.goto (-27), 3) := dk_167 255 229 (dk_at dksX21_and_1 8 rfl rfl)
theorem dX21_and_35 : decode cX21_and 35 = .ok (.aload_n 1, 1) := dk_43 (dk_at dksX21_and_1 11 rfl rfl)
theorem dX21_and_36 : decode cX21_and 36 = .ok (.areturn, 1) := dk_176 (dk_at dksX21_and_1 12 rfl rfl)
theorem se_HeldCoats_SentenceReader_says___LHeldCoats_Cond__HeldCoats_SentenceReader : ∀ c ∈ ([18] : List Nat), ∃ q : vw_C, cz_cl[c]? = some q ∧ Cond.selects q.1 (⟨"HeldCoats$SentenceReader", "says", "()LHeldCoats$Cond;"⟩ : MethodName) (⟨"HeldCoats$SentenceReader", "says", "()LHeldCoats$Cond;"⟩ : MethodName) ∈ lw_all := List.forall_mem_cons.mpr ⟨⟨_, cz_cl18, qs40⟩, fun _ h => absurd h List.not_mem_nil⟩
theorem md_X21_says : cz_md yX21_says 9 (ws_ yX21_says cX21_says 9 ((Option.some (Jvm.ClassFile.FieldType.object "HeldCoats$Cond")))) 0 := ⟨cz_ws_code q1670, q152, ⟨by decide, by decide, by decide +kernel⟩, by decide⟩
set_option maxHeartbeats 4000000 in
set_option maxRecDepth 100000 in
noncomputable def fn_X21_and_5 (F : Nat → Option Nat → cz_H → cz_Z) (l0 : Option Nat) (k0 : Option Nat → cz_H → cz_Z) : Nat → Option Nat → cz_H → cz_Z
  | 0, _, _ => none
  | n + 1, l1, h => cz_rc h l0 [18] (cz_cI (fn_X6_is l0 (h.1.2.2.2 25) h) (fun x18 h17 => (if x18 = 0 then k0 l1 h17 else cz_rc h17 l0 [18] (cz_cV (fn_X6_go l0 h17) (fun h25 => cz_newo h25 23 3 (fun r26 h27 => cz_rc h27 l0 [18] (cz_xR (F 2 l0 h27) (fun q35 h36 => cz_thr q35 h36) (fun r37 h34 => cz_nn' r26 (cz_cV (fn_X27_init r26 l1 r37 1 h34) (fun h40 => fn_X21_and_5 F l0 k0 n r26 h40))))))))))
set_option maxHeartbeats 4000000 in
set_option maxRecDepth 100000 in
theorem wk_X21_and_5 {K : cz_K} {D : cz_D} {h0 : cz_H} {oh : cz_O × cz_H} {dd : Nat} {F : Nat → Option Nat → cz_H → cz_Z} {l0 : Option Nat} {k0 : Option Nat → cz_H → cz_Z} (hdd : 11 ≤ dd) (HF0 : ∀ (r : Option Nat) (h : cz_H) (oh' : cz_O × cz_H), F 0 r h = some oh' → cz_M K.2.1 D yX21_or (ws_ yX21_or cX21_or 2 ((Option.some (Jvm.ClassFile.FieldType.object "HeldCoats$Cond")))) dd [cz_r r] h oh') (HF1 : ∀ (r : Option Nat) (h : cz_H) (oh' : cz_O × cz_H), F 1 r h = some oh' → cz_M K.2.1 D yX21_and (ws_ yX21_and cX21_and 2 ((Option.some (Jvm.ClassFile.FieldType.object "HeldCoats$Cond")))) dd [cz_r r] h oh') (HF2 : ∀ (r : Option Nat) (h : cz_H) (oh' : cz_O × cz_H), F 2 r h = some oh' → cz_M K.2.1 D yX21_says (ws_ yX21_says cX21_says 9 ((Option.some (Jvm.ClassFile.FieldType.object "HeldCoats$Cond")))) dd [cz_r r] h oh') (HF3 : ∀ (r : Option Nat) (h : cz_H) (oh' : cz_O × cz_H), F 3 r h = some oh' → cz_M K.2.1 D yX21_bracket (ws_ yX21_bracket cX21_bracket 2 ((Option.some (Jvm.ClassFile.FieldType.object "HeldCoats$Cond")))) dd [cz_r r] h oh') (S : cz_S K D h0 cX21_and 2 "HeldCoats$SentenceReader" ((Option.some (Jvm.ClassFile.FieldType.object "HeldCoats$Cond"))) "and" ([])) (hk0 : ∀ (e1 : Option Nat) (h : cz_H), cz_T K D (dd + 1) h0 oh 2 (k0 e1 h) h 35 [(1, cz_r e1)] []) : ∀ (n : Nat) (l1 : Option Nat) (h : cz_H), cz_T K D (dd + 1) h0 oh 2 (fn_X21_and_5 F l0 k0 n l1 h) h 5 [(0, cz_r l0), (1, cz_r l1)] [] := by
  intro n
  induction n with
  | zero => intros; exact ct_none
  | succ n ih =>
    intro l1 h
    rw [fn_X21_and_5]
    refine ct_aload_n (k := 0) S dX21_and_5 rfl rfl ?_
    refine ct_ldcS (i := 25) S rfl dX21_and_6 ?_
    refine ct_rc (fun b11 ci12 V13 hb14 hc15 hi16 => ?_)
    refine ct_cI (st := []) (cg_up (owner := "HeldCoats$Reader") (av := [cz_r (h.1.2.2.2 25)]) S hb14 hc15 hi16 (fun _ e => mt_X6_is e) q727 q1672 q1673 (Or.inl q724) ⟨by decide, by decide⟩ q726 q124 nh_HeldCoats_SentenceReader_is__Ljava_lang_String__Z se_HeldCoats_SentenceReader_is__Ljava_lang_String__Z_HeldCoats_Reader (by decide) (by omega) (Nat.le_of_ble_eq_true rfl) rfl dX21_and_8) (fun x18 h17 => ?_)
    refine ct_if_eq (tgt := 35) S dX21_and_11 (by decide) ?_ ?_
    · exact ct_sub [1] rfl (hk0 l1 h17)
    · refine ct_aload_n (k := 0) S dX21_and_14 rfl rfl ?_
      refine ct_rc (fun b19 ci20 V21 hb22 hc23 hi24 => ?_)
      refine ct_cV (st := []) (cg_up (owner := "HeldCoats$Reader") (av := []) S hb22 hc23 hi24 (fun _ e => mt_X6_go e) q521 q1656 q1657 (Or.inl q518) ⟨by decide, by decide⟩ q520 q124 nh_HeldCoats_SentenceReader_go___V se_HeldCoats_SentenceReader_go___V_HeldCoats_Reader (by decide) (by omega) (Nat.le_of_ble_eq_true rfl) rfl dX21_and_15) (fun h25 => ?_)
      refine ct_newo S (by decide) cz_cl23 q1757 dX21_and_18 (fun r26 h27 => ?_)
      refine ct_dup S dX21_and_21 rfl ?_
      refine ct_aload_n (k := 1) S dX21_and_22 rfl rfl ?_
      refine ct_aload_n (k := 0) S dX21_and_23 rfl rfl ?_
      refine ct_rc (fun b28 ci29 V30 hb31 hc32 hi33 => ?_)
      refine ct_xR (st := [cz_r l1, cz_r r26, cz_r r26]) (cg_virtual (av := []) S hb31 hc32 hi33 (fun _ e => HF2 _ _ _ e) md_X21_says q1667 q1669 se_HeldCoats_SentenceReader_says___LHeldCoats_Cond__HeldCoats_SentenceReader (by omega) (Nat.le_of_ble_eq_true rfl) rfl dX21_and_24) (fun q35 h36 => ?_) (fun r37 h34 => ?_)
      · exact ct_out S (fun x hx => by cases hx)
      · refine ct_iconst (v := 1) S dX21_and_27 kI_1 ?_
        refine ct_nn (fun b38 hb39 => ?_)
        refine ct_cV (st := [cz_r r26]) (cg_init (av := [cz_r l1, cz_r r37, cz_i 1]) S hb39 (fun _ e => mt_X27_init e) q1761 (Or.inl q1759) rfl q1760 q158 nh_HeldCoats_Two__init___LHeldCoats_Cond_LHeldCoats_Cond_Z_V (by decide) (by omega) (Nat.le_of_ble_eq_true rfl) rfl dX21_and_28) (fun h40 => ?_)
        refine ct_astore_n (L' := [(1, cz_r r26), (0, cz_r l0)]) S dX21_and_31 rfl (by decide) rfl ?_
        refine ct_goto (tgt := 5) S dX21_and_32 (by decide) ?_
        exact ct_sub [1, 0] rfl (ih r26 h40)
set_option maxHeartbeats 4000000 in
set_option maxRecDepth 100000 in
noncomputable def fn_X21_and_b (F : Nat → Option Nat → cz_H → cz_Z) (l0 : Option Nat) (h : cz_H) : cz_Z := cz_rc h l0 [18] (cz_xR (F 2 l0 h) (fun q8 h9 => cz_thr q8 h9) (fun r10 h7 => fn_X21_and_5 F l0 (fun (e41 : Option Nat) (h42 : cz_H) => some (.inl (some (cz_r e41)), h42)) 1000 r10 h7))
set_option maxHeartbeats 4000000 in
set_option maxRecDepth 100000 in
theorem wk_X21_and {K : cz_K} {D : cz_D} {h0 : cz_H} {oh : cz_O × cz_H} {dd : Nat} {F : Nat → Option Nat → cz_H → cz_Z} {l0 : Option Nat} {h : cz_H} (hdd : 11 ≤ dd) (HF0 : ∀ (r : Option Nat) (h : cz_H) (oh' : cz_O × cz_H), F 0 r h = some oh' → cz_M K.2.1 D yX21_or (ws_ yX21_or cX21_or 2 ((Option.some (Jvm.ClassFile.FieldType.object "HeldCoats$Cond")))) dd [cz_r r] h oh') (HF1 : ∀ (r : Option Nat) (h : cz_H) (oh' : cz_O × cz_H), F 1 r h = some oh' → cz_M K.2.1 D yX21_and (ws_ yX21_and cX21_and 2 ((Option.some (Jvm.ClassFile.FieldType.object "HeldCoats$Cond")))) dd [cz_r r] h oh') (HF2 : ∀ (r : Option Nat) (h : cz_H) (oh' : cz_O × cz_H), F 2 r h = some oh' → cz_M K.2.1 D yX21_says (ws_ yX21_says cX21_says 9 ((Option.some (Jvm.ClassFile.FieldType.object "HeldCoats$Cond")))) dd [cz_r r] h oh') (HF3 : ∀ (r : Option Nat) (h : cz_H) (oh' : cz_O × cz_H), F 3 r h = some oh' → cz_M K.2.1 D yX21_bracket (ws_ yX21_bracket cX21_bracket 2 ((Option.some (Jvm.ClassFile.FieldType.object "HeldCoats$Cond")))) dd [cz_r r] h oh') (S : cz_S K D h0 cX21_and 2 "HeldCoats$SentenceReader" ((Option.some (Jvm.ClassFile.FieldType.object "HeldCoats$Cond"))) "and" ([])) : cz_T K D (dd + 1) h0 oh 2 (fn_X21_and_b F l0 h) h 0 [(0, cz_r l0)] [] := by
  unfold fn_X21_and_b
  refine ct_aload_n (k := 0) S dX21_and_0 rfl rfl ?_
  refine ct_rc (fun b1 ci2 V3 hb4 hc5 hi6 => ?_)
  refine ct_xR (st := []) (cg_virtual (av := []) S hb4 hc5 hi6 (fun _ e => HF2 _ _ _ e) md_X21_says q1667 q1669 se_HeldCoats_SentenceReader_says___LHeldCoats_Cond__HeldCoats_SentenceReader (by omega) (Nat.le_of_ble_eq_true rfl) rfl dX21_and_1) (fun q8 h9 => ?_) (fun r10 h7 => ?_)
  · exact ct_out S (fun x hx => by cases hx)
  · refine ct_astore_n (L' := [(1, cz_r r10), (0, cz_r l0)]) S dX21_and_4 rfl (by decide) rfl ?_
    refine ct_sub [1, 0] (L' := [(0, cz_r l0), (1, cz_r r10)]) rfl (wk_X21_and_5 hdd HF0 HF1 HF2 HF3 S ?_ 1000 r10 h7)
    · intro e41 h42
      refine ct_aload_n (k := 0) S dX21_and_35 rfl rfl ?_
      exact ct_aret S rfl (Or.inl ⟨_, rfl⟩) dX21_and_36
/-! HeldCoats$SentenceReader.says()LHeldCoats$Cond; -/
def dkwX21_says_12 : List UInt8 := [181, 0, 76, 25, 8, 176]
abbrev dktX21_says_12 : List UInt8 := dkwX21_says_12 ++ []
def dkwX21_says_11 : List UInt8 := [182, 0, 100, 183, 0, 104, 167, 0, 9, 42, 21, 7, 182, 0, 109, 58, 8, 42, 89, 180, 0, 76, 4, 100]
abbrev dktX21_says_11 : List UInt8 := dkwX21_says_11 ++ dktX21_says_12
def dkwX21_says_10 : List UInt8 := [183, 0, 104, 167, 0, 36, 21, 6, 153, 0, 25, 187, 0, 92, 89, 3, 42, 42, 180, 0, 9, 180, 0, 106]
abbrev dktX21_says_10 : List UInt8 := dkwX21_says_10 ++ dktX21_says_11
def dkwX21_says_9 : List UInt8 := [167, 0, 63, 21, 5, 153, 0, 25, 187, 0, 92, 89, 4, 42, 42, 180, 0, 9, 180, 0, 94, 182, 0, 100]
abbrev dktX21_says_9 : List UInt8 := dkwX21_says_9 ++ dktX21_says_10
def dkwX21_says_8 : List UInt8 := [183, 0, 84, 167, 0, 83, 29, 154, 0, 8, 21, 4, 153, 0, 14, 187, 0, 87, 89, 29, 183, 0, 89]
abbrev dktX21_says_8 : List UInt8 := dkwX21_says_8 ++ dktX21_says_9
def dkwX21_says_7 : List UInt8 := [153, 0, 10, 42, 182, 0, 79, 167, 0, 101, 28, 153, 0, 17, 187, 0, 82, 89, 42, 182, 0, 44]
abbrev dktX21_says_7 : List UInt8 := dkwX21_says_7 ++ dktX21_says_8
def dkwX21_says_6 : List UInt8 := [89, 180, 0, 73, 4, 96, 181, 0, 73, 42, 89, 180, 0, 76, 4, 96, 181, 0, 76, 42, 182, 0, 15, 27]
abbrev dktX21_says_6 : List UInt8 := dkwX21_says_6 ++ dktX21_says_7
def dkwX21_says_5 : List UInt8 := [16, 20, 162, 0, 16, 42, 180, 0, 76, 16, 8, 162, 0, 7, 4, 167, 0, 4, 3, 7, 182, 0, 27, 42]
abbrev dktX21_says_5 : List UInt8 := dkwX21_says_5 ++ dktX21_says_6
def dkwX21_says_4 : List UInt8 := [154, 0, 9, 21, 7, 2, 159, 0, 7, 4, 167, 0, 4, 3, 4, 182, 0, 27, 42, 42, 180, 0, 73]
abbrev dktX21_says_4 : List UInt8 := dkwX21_says_4 ++ dktX21_says_5
def dkwX21_says_3 : List UInt8 := [154, 0, 32, 28, 154, 0, 28, 29, 154, 0, 24, 21, 4, 154, 0, 19, 21, 5, 154, 0, 14, 21, 6]
abbrev dktX21_says_3 : List UInt8 := dkwX21_says_3 ++ dktX21_says_4
def dkwX21_says_2 : List UInt8 := [18, 65, 182, 0, 35, 54, 5, 42, 18, 67, 182, 0, 35, 54, 6, 42, 182, 0, 69, 54, 7, 42, 27]
abbrev dktX21_says_2 : List UInt8 := dkwX21_says_2 ++ dktX21_says_3
def dkwX21_says_1 : List UInt8 := [42, 18, 59, 182, 0, 35, 61, 42, 18, 61, 182, 0, 35, 62, 42, 18, 63, 182, 0, 35, 54, 4, 42]
abbrev dktX21_says_1 : List UInt8 := dkwX21_says_1 ++ dktX21_says_2
def dkwX21_says_0 : List UInt8 := [42, 180, 0, 23, 16, 6, 160, 0, 16, 42, 180, 0, 56, 16, 40, 160, 0, 7, 4, 167, 0, 4, 3, 60]
abbrev dktX21_says_0 : List UInt8 := dkwX21_says_0 ++ dktX21_says_1
theorem dksX21_says_0 : cX21_says.data.toList.drop 0 = dktX21_says_0 := by decide +kernel
theorem dksX21_says_1 : cX21_says.data.toList.drop 24 = dktX21_says_1 := dk_seg dksX21_says_0 24 rfl rfl
theorem dksX21_says_2 : cX21_says.data.toList.drop 47 = dktX21_says_2 := dk_seg dksX21_says_1 23 rfl rfl
theorem dksX21_says_3 : cX21_says.data.toList.drop 70 = dktX21_says_3 := dk_seg dksX21_says_2 23 rfl rfl
theorem dksX21_says_4 : cX21_says.data.toList.drop 93 = dktX21_says_4 := dk_seg dksX21_says_3 23 rfl rfl
theorem dksX21_says_5 : cX21_says.data.toList.drop 116 = dktX21_says_5 := dk_seg dksX21_says_4 23 rfl rfl
theorem dksX21_says_6 : cX21_says.data.toList.drop 140 = dktX21_says_6 := dk_seg dksX21_says_5 24 rfl rfl
theorem dksX21_says_7 : cX21_says.data.toList.drop 164 = dktX21_says_7 := dk_seg dksX21_says_6 24 rfl rfl
theorem dksX21_says_8 : cX21_says.data.toList.drop 186 = dktX21_says_8 := dk_seg dksX21_says_7 22 rfl rfl
theorem dksX21_says_9 : cX21_says.data.toList.drop 209 = dktX21_says_9 := dk_seg dksX21_says_8 23 rfl rfl
theorem dksX21_says_10 : cX21_says.data.toList.drop 233 = dktX21_says_10 := dk_seg dksX21_says_9 24 rfl rfl
theorem dksX21_says_11 : cX21_says.data.toList.drop 257 = dktX21_says_11 := dk_seg dksX21_says_10 24 rfl rfl
theorem dksX21_says_12 : cX21_says.data.toList.drop 281 = dktX21_says_12 := dk_seg dksX21_says_11 24 rfl rfl
theorem dX21_says_0 : decode cX21_says 0 = .ok (.aload_n 0, 1) := dk_42 (dk_at dksX21_says_0 0 rfl rfl)
theorem dX21_says_1 : decode cX21_says 1 = .ok (.getfield 23, 3) := dk_180 0 23 (dk_at dksX21_says_0 1 rfl rfl)
theorem dX21_says_4 : decode cX21_says 4 = .ok (.bipush 6, 2) := dk_16 6 (dk_at dksX21_says_0 4 rfl rfl)
theorem dX21_says_6 : decode cX21_says 6 = .ok (.if_icmp .ne 16, 3) := dk_160 0 16 (dk_at dksX21_says_0 6 rfl rfl)
theorem dX21_says_9 : decode cX21_says 9 = .ok (.aload_n 0, 1) := dk_42 (dk_at dksX21_says_0 9 rfl rfl)
theorem dX21_says_10 : decode cX21_says 10 = .ok (.getfield 56, 3) := dk_180 0 56 (dk_at dksX21_says_0 10 rfl rfl)
theorem dX21_says_13 : decode cX21_says 13 = .ok (.bipush 40, 2) := dk_16 40 (dk_at dksX21_says_0 13 rfl rfl)
theorem dX21_says_15 : decode cX21_says 15 = .ok (.if_icmp .ne 7, 3) := dk_160 0 7 (dk_at dksX21_says_0 15 rfl rfl)
theorem dX21_says_18 : decode cX21_says 18 = .ok (.iconst 1, 1) := dk_4 (dk_at dksX21_says_0 18 rfl rfl)
theorem dX21_says_19 : decode cX21_says 19 = .ok (.goto 4, 3) := dk_167 0 4 (dk_at dksX21_says_0 19 rfl rfl)
theorem dX21_says_22 : decode cX21_says 22 = .ok (.iconst 0, 1) := dk_3 (dk_at dksX21_says_0 22 rfl rfl)
theorem dX21_says_23 : decode cX21_says 23 = .ok (.istore_n 1, 1) := dk_60 (dk_at dksX21_says_0 23 rfl rfl)
theorem dX21_says_24 : decode cX21_says 24 = .ok (.aload_n 0, 1) := dk_42 (dk_at dksX21_says_1 0 rfl rfl)
theorem dX21_says_25 : decode cX21_says 25 = .ok (.ldc 59, 2) := dk_18 59 (dk_at dksX21_says_1 1 rfl rfl)
theorem dX21_says_27 : decode cX21_says 27 = .ok (.invokevirtual 35, 3) := dk_182 0 35 (dk_at dksX21_says_1 3 rfl rfl)
theorem dX21_says_30 : decode cX21_says 30 = .ok (.istore_n 2, 1) := dk_61 (dk_at dksX21_says_1 6 rfl rfl)
theorem dX21_says_31 : decode cX21_says 31 = .ok (.aload_n 0, 1) := dk_42 (dk_at dksX21_says_1 7 rfl rfl)
theorem dX21_says_32 : decode cX21_says 32 = .ok (.ldc 61, 2) := dk_18 61 (dk_at dksX21_says_1 8 rfl rfl)
theorem dX21_says_34 : decode cX21_says 34 = .ok (.invokevirtual 35, 3) := dk_182 0 35 (dk_at dksX21_says_1 10 rfl rfl)
theorem dX21_says_37 : decode cX21_says 37 = .ok (.istore_n 3, 1) := dk_62 (dk_at dksX21_says_1 13 rfl rfl)
theorem dX21_says_38 : decode cX21_says 38 = .ok (.aload_n 0, 1) := dk_42 (dk_at dksX21_says_1 14 rfl rfl)
theorem dX21_says_39 : decode cX21_says 39 = .ok (.ldc 63, 2) := dk_18 63 (dk_at dksX21_says_1 15 rfl rfl)
theorem dX21_says_41 : decode cX21_says 41 = .ok (.invokevirtual 35, 3) := dk_182 0 35 (dk_at dksX21_says_1 17 rfl rfl)
theorem dX21_says_44 : decode cX21_says 44 = .ok (.istore 4, 2) := dk_54 4 (dk_at dksX21_says_1 20 rfl rfl)
theorem dX21_says_46 : decode cX21_says 46 = .ok (.aload_n 0, 1) := dk_42 (dk_at dksX21_says_1 22 rfl rfl)
theorem dX21_says_47 : decode cX21_says 47 = .ok (.ldc 65, 2) := dk_18 65 (dk_at dksX21_says_2 0 rfl rfl)
theorem dX21_says_49 : decode cX21_says 49 = .ok (.invokevirtual 35, 3) := dk_182 0 35 (dk_at dksX21_says_2 2 rfl rfl)
theorem dX21_says_52 : decode cX21_says 52 = .ok (.istore 5, 2) := dk_54 5 (dk_at dksX21_says_2 5 rfl rfl)
theorem dX21_says_54 : decode cX21_says 54 = .ok (.aload_n 0, 1) := dk_42 (dk_at dksX21_says_2 7 rfl rfl)
theorem dX21_says_55 : decode cX21_says 55 = .ok (.ldc 67, 2) := dk_18 67 (dk_at dksX21_says_2 8 rfl rfl)
theorem dX21_says_57 : decode cX21_says 57 = .ok (.invokevirtual 35, 3) := dk_182 0 35 (dk_at dksX21_says_2 10 rfl rfl)
theorem dX21_says_60 : decode cX21_says 60 = .ok (.istore 6, 2) := dk_54 6 (dk_at dksX21_says_2 13 rfl rfl)
theorem dX21_says_62 : decode cX21_says 62 = .ok (.aload_n 0, 1) := dk_42 (dk_at dksX21_says_2 15 rfl rfl)
theorem dX21_says_63 : decode cX21_says 63 = .ok (.invokevirtual 69, 3) := dk_182 0 69 (dk_at dksX21_says_2 16 rfl rfl)
theorem dX21_says_66 : decode cX21_says 66 = .ok (.istore 7, 2) := dk_54 7 (dk_at dksX21_says_2 19 rfl rfl)
theorem dX21_says_68 : decode cX21_says 68 = .ok (.aload_n 0, 1) := dk_42 (dk_at dksX21_says_2 21 rfl rfl)
theorem dX21_says_69 : decode cX21_says 69 = .ok (.iload_n 1, 1) := dk_27 (dk_at dksX21_says_2 22 rfl rfl)
theorem dX21_says_70 : decode cX21_says 70 = .ok (.ifCond .ne 32, 3) := dk_154 0 32 (dk_at dksX21_says_3 0 rfl rfl)
theorem dX21_says_73 : decode cX21_says 73 = .ok (.iload_n 2, 1) := dk_28 (dk_at dksX21_says_3 3 rfl rfl)
theorem dX21_says_74 : decode cX21_says 74 = .ok (.ifCond .ne 28, 3) := dk_154 0 28 (dk_at dksX21_says_3 4 rfl rfl)
theorem dX21_says_77 : decode cX21_says 77 = .ok (.iload_n 3, 1) := dk_29 (dk_at dksX21_says_3 7 rfl rfl)
theorem dX21_says_78 : decode cX21_says 78 = .ok (.ifCond .ne 24, 3) := dk_154 0 24 (dk_at dksX21_says_3 8 rfl rfl)
theorem dX21_says_81 : decode cX21_says 81 = .ok (.iload 4, 2) := dk_21 4 (dk_at dksX21_says_3 11 rfl rfl)
theorem dX21_says_83 : decode cX21_says 83 = .ok (.ifCond .ne 19, 3) := dk_154 0 19 (dk_at dksX21_says_3 13 rfl rfl)
theorem dX21_says_86 : decode cX21_says 86 = .ok (.iload 5, 2) := dk_21 5 (dk_at dksX21_says_3 16 rfl rfl)
theorem dX21_says_88 : decode cX21_says 88 = .ok (.ifCond .ne 14, 3) := dk_154 0 14 (dk_at dksX21_says_3 18 rfl rfl)
theorem dX21_says_91 : decode cX21_says 91 = .ok (.iload 6, 2) := dk_21 6 (dk_at dksX21_says_3 21 rfl rfl)
theorem dX21_says_93 : decode cX21_says 93 = .ok (.ifCond .ne 9, 3) := dk_154 0 9 (dk_at dksX21_says_4 0 rfl rfl)
theorem dX21_says_96 : decode cX21_says 96 = .ok (.iload 7, 2) := dk_21 7 (dk_at dksX21_says_4 3 rfl rfl)
theorem dX21_says_98 : decode cX21_says 98 = .ok (.iconst (-1), 1) := dk_2 (dk_at dksX21_says_4 5 rfl rfl)
theorem dX21_says_99 : decode cX21_says 99 = .ok (.if_icmp .eq 7, 3) := dk_159 0 7 (dk_at dksX21_says_4 6 rfl rfl)
theorem dX21_says_102 : decode cX21_says 102 = .ok (.iconst 1, 1) := dk_4 (dk_at dksX21_says_4 9 rfl rfl)
theorem dX21_says_103 : decode cX21_says 103 = .ok (.goto 4, 3) := dk_167 0 4 (dk_at dksX21_says_4 10 rfl rfl)
theorem dX21_says_106 : decode cX21_says 106 = .ok (.iconst 0, 1) := dk_3 (dk_at dksX21_says_4 13 rfl rfl)
theorem dX21_says_107 : decode cX21_says 107 = .ok (.iconst 1, 1) := dk_4 (dk_at dksX21_says_4 14 rfl rfl)
theorem dX21_says_108 : decode cX21_says 108 = .ok (.invokevirtual 27, 3) := dk_182 0 27 (dk_at dksX21_says_4 15 rfl rfl)
theorem dX21_says_111 : decode cX21_says 111 = .ok (.aload_n 0, 1) := dk_42 (dk_at dksX21_says_4 18 rfl rfl)
theorem dX21_says_112 : decode cX21_says 112 = .ok (.aload_n 0, 1) := dk_42 (dk_at dksX21_says_4 19 rfl rfl)
theorem dX21_says_113 : decode cX21_says 113 = .ok (.getfield 73, 3) := dk_180 0 73 (dk_at dksX21_says_4 20 rfl rfl)
theorem dX21_says_116 : decode cX21_says 116 = .ok (.bipush 20, 2) := dk_16 20 (dk_at dksX21_says_5 0 rfl rfl)
theorem dX21_says_118 : decode cX21_says 118 = .ok (.if_icmp .ge 16, 3) := dk_162 0 16 (dk_at dksX21_says_5 2 rfl rfl)
theorem dX21_says_121 : decode cX21_says 121 = .ok (.aload_n 0, 1) := dk_42 (dk_at dksX21_says_5 5 rfl rfl)
theorem dX21_says_122 : decode cX21_says 122 = .ok (.getfield 76, 3) := dk_180 0 76 (dk_at dksX21_says_5 6 rfl rfl)
theorem dX21_says_125 : decode cX21_says 125 = .ok (.bipush 8, 2) := dk_16 8 (dk_at dksX21_says_5 9 rfl rfl)
theorem dX21_says_127 : decode cX21_says 127 = .ok (.if_icmp .ge 7, 3) := dk_162 0 7 (dk_at dksX21_says_5 11 rfl rfl)
theorem dX21_says_130 : decode cX21_says 130 = .ok (.iconst 1, 1) := dk_4 (dk_at dksX21_says_5 14 rfl rfl)
theorem dX21_says_131 : decode cX21_says 131 = .ok (.goto 4, 3) := dk_167 0 4 (dk_at dksX21_says_5 15 rfl rfl)
theorem dX21_says_134 : decode cX21_says 134 = .ok (.iconst 0, 1) := dk_3 (dk_at dksX21_says_5 18 rfl rfl)
theorem dX21_says_135 : decode cX21_says 135 = .ok (.iconst 4, 1) := dk_7 (dk_at dksX21_says_5 19 rfl rfl)
theorem dX21_says_136 : decode cX21_says 136 = .ok (.invokevirtual 27, 3) := dk_182 0 27 (dk_at dksX21_says_5 20 rfl rfl)
theorem dX21_says_139 : decode cX21_says 139 = .ok (.aload_n 0, 1) := dk_42 (dk_at dksX21_says_5 23 rfl rfl)
theorem dX21_says_140 : decode cX21_says 140 = .ok (.dup, 1) := dk_89 (dk_at dksX21_says_6 0 rfl rfl)
theorem dX21_says_141 : decode cX21_says 141 = .ok (.getfield 73, 3) := dk_180 0 73 (dk_at dksX21_says_6 1 rfl rfl)
theorem dX21_says_144 : decode cX21_says 144 = .ok (.iconst 1, 1) := dk_4 (dk_at dksX21_says_6 4 rfl rfl)
theorem dX21_says_145 : decode cX21_says 145 = .ok (.iadd, 1) := dk_96 (dk_at dksX21_says_6 5 rfl rfl)
theorem dX21_says_146 : decode cX21_says 146 = .ok (.putfield 73, 3) := dk_181 0 73 (dk_at dksX21_says_6 6 rfl rfl)
theorem dX21_says_149 : decode cX21_says 149 = .ok (.aload_n 0, 1) := dk_42 (dk_at dksX21_says_6 9 rfl rfl)
theorem dX21_says_150 : decode cX21_says 150 = .ok (.dup, 1) := dk_89 (dk_at dksX21_says_6 10 rfl rfl)
theorem dX21_says_151 : decode cX21_says 151 = .ok (.getfield 76, 3) := dk_180 0 76 (dk_at dksX21_says_6 11 rfl rfl)
theorem dX21_says_154 : decode cX21_says 154 = .ok (.iconst 1, 1) := dk_4 (dk_at dksX21_says_6 14 rfl rfl)
theorem dX21_says_155 : decode cX21_says 155 = .ok (.iadd, 1) := dk_96 (dk_at dksX21_says_6 15 rfl rfl)
theorem dX21_says_156 : decode cX21_says 156 = .ok (.putfield 76, 3) := dk_181 0 76 (dk_at dksX21_says_6 16 rfl rfl)
theorem dX21_says_159 : decode cX21_says 159 = .ok (.aload_n 0, 1) := dk_42 (dk_at dksX21_says_6 19 rfl rfl)
theorem dX21_says_160 : decode cX21_says 160 = .ok (.invokevirtual 15, 3) := dk_182 0 15 (dk_at dksX21_says_6 20 rfl rfl)
theorem dX21_says_163 : decode cX21_says 163 = .ok (.iload_n 1, 1) := dk_27 (dk_at dksX21_says_6 23 rfl rfl)
theorem dX21_says_164 : decode cX21_says 164 = .ok (.ifCond .eq 10, 3) := dk_153 0 10 (dk_at dksX21_says_7 0 rfl rfl)
theorem dX21_says_167 : decode cX21_says 167 = .ok (.aload_n 0, 1) := dk_42 (dk_at dksX21_says_7 3 rfl rfl)
theorem dX21_says_168 : decode cX21_says 168 = .ok (.invokevirtual 79, 3) := dk_182 0 79 (dk_at dksX21_says_7 4 rfl rfl)
theorem dX21_says_171 : decode cX21_says 171 = .ok (.goto 101, 3) := dk_167 0 101 (dk_at dksX21_says_7 7 rfl rfl)
theorem dX21_says_174 : decode cX21_says 174 = .ok (.iload_n 2, 1) := dk_28 (dk_at dksX21_says_7 10 rfl rfl)
theorem dX21_says_175 : decode cX21_says 175 = .ok (.ifCond .eq 17, 3) := dk_153 0 17 (dk_at dksX21_says_7 11 rfl rfl)
theorem dX21_says_178 : decode cX21_says 178 = .ok (.new 82, 3) := dk_187 0 82 (dk_at dksX21_says_7 14 rfl rfl)
theorem dX21_says_181 : decode cX21_says 181 = .ok (.dup, 1) := dk_89 (dk_at dksX21_says_7 17 rfl rfl)
theorem dX21_says_182 : decode cX21_says 182 = .ok (.aload_n 0, 1) := dk_42 (dk_at dksX21_says_7 18 rfl rfl)
theorem dX21_says_183 : decode cX21_says 183 = .ok (.invokevirtual 44, 3) := dk_182 0 44 (dk_at dksX21_says_7 19 rfl rfl)
theorem dX21_says_186 : decode cX21_says 186 = .ok (.invokespecial 84, 3) := dk_183 0 84 (dk_at dksX21_says_8 0 rfl rfl)
theorem dX21_says_189 : decode cX21_says 189 = .ok (.goto 83, 3) := dk_167 0 83 (dk_at dksX21_says_8 3 rfl rfl)
theorem dX21_says_192 : decode cX21_says 192 = .ok (.iload_n 3, 1) := dk_29 (dk_at dksX21_says_8 6 rfl rfl)
theorem dX21_says_193 : decode cX21_says 193 = .ok (.ifCond .ne 8, 3) := dk_154 0 8 (dk_at dksX21_says_8 7 rfl rfl)
theorem dX21_says_196 : decode cX21_says 196 = .ok (.iload 4, 2) := dk_21 4 (dk_at dksX21_says_8 10 rfl rfl)
theorem dX21_says_198 : decode cX21_says 198 = .ok (.ifCond .eq 14, 3) := dk_153 0 14 (dk_at dksX21_says_8 12 rfl rfl)
theorem dX21_says_201 : decode cX21_says 201 = .ok (.new 87, 3) := dk_187 0 87 (dk_at dksX21_says_8 15 rfl rfl)
theorem dX21_says_204 : decode cX21_says 204 = .ok (.dup, 1) := dk_89 (dk_at dksX21_says_8 18 rfl rfl)
theorem dX21_says_205 : decode cX21_says 205 = .ok (.iload_n 3, 1) := dk_29 (dk_at dksX21_says_8 19 rfl rfl)
theorem dX21_says_206 : decode cX21_says 206 = .ok (.invokespecial 89, 3) := dk_183 0 89 (dk_at dksX21_says_8 20 rfl rfl)
theorem dX21_says_209 : decode cX21_says 209 = .ok (.goto 63, 3) := dk_167 0 63 (dk_at dksX21_says_9 0 rfl rfl)
theorem dX21_says_212 : decode cX21_says 212 = .ok (.iload 5, 2) := dk_21 5 (dk_at dksX21_says_9 3 rfl rfl)
theorem dX21_says_214 : decode cX21_says 214 = .ok (.ifCond .eq 25, 3) := dk_153 0 25 (dk_at dksX21_says_9 5 rfl rfl)
theorem dX21_says_217 : decode cX21_says 217 = .ok (.new 92, 3) := dk_187 0 92 (dk_at dksX21_says_9 8 rfl rfl)
theorem dX21_says_220 : decode cX21_says 220 = .ok (.dup, 1) := dk_89 (dk_at dksX21_says_9 11 rfl rfl)
theorem dX21_says_221 : decode cX21_says 221 = .ok (.iconst 1, 1) := dk_4 (dk_at dksX21_says_9 12 rfl rfl)
theorem dX21_says_222 : decode cX21_says 222 = .ok (.aload_n 0, 1) := dk_42 (dk_at dksX21_says_9 13 rfl rfl)
theorem dX21_says_223 : decode cX21_says 223 = .ok (.aload_n 0, 1) := dk_42 (dk_at dksX21_says_9 14 rfl rfl)
theorem dX21_says_224 : decode cX21_says 224 = .ok (.getfield 9, 3) := dk_180 0 9 (dk_at dksX21_says_9 15 rfl rfl)
theorem dX21_says_227 : decode cX21_says 227 = .ok (.getfield 94, 3) := dk_180 0 94 (dk_at dksX21_says_9 18 rfl rfl)
theorem dX21_says_230 : decode cX21_says 230 = .ok (.invokevirtual 100, 3) := dk_182 0 100 (dk_at dksX21_says_9 21 rfl rfl)
theorem dX21_says_233 : decode cX21_says 233 = .ok (.invokespecial 104, 3) := dk_183 0 104 (dk_at dksX21_says_10 0 rfl rfl)
theorem dX21_says_236 : decode cX21_says 236 = .ok (.goto 36, 3) := dk_167 0 36 (dk_at dksX21_says_10 3 rfl rfl)
theorem dX21_says_239 : decode cX21_says 239 = .ok (.iload 6, 2) := dk_21 6 (dk_at dksX21_says_10 6 rfl rfl)
theorem dX21_says_241 : decode cX21_says 241 = .ok (.ifCond .eq 25, 3) := dk_153 0 25 (dk_at dksX21_says_10 8 rfl rfl)
theorem dX21_says_244 : decode cX21_says 244 = .ok (.new 92, 3) := dk_187 0 92 (dk_at dksX21_says_10 11 rfl rfl)
theorem dX21_says_247 : decode cX21_says 247 = .ok (.dup, 1) := dk_89 (dk_at dksX21_says_10 14 rfl rfl)
theorem dX21_says_248 : decode cX21_says 248 = .ok (.iconst 0, 1) := dk_3 (dk_at dksX21_says_10 15 rfl rfl)
theorem dX21_says_249 : decode cX21_says 249 = .ok (.aload_n 0, 1) := dk_42 (dk_at dksX21_says_10 16 rfl rfl)
theorem dX21_says_250 : decode cX21_says 250 = .ok (.aload_n 0, 1) := dk_42 (dk_at dksX21_says_10 17 rfl rfl)
theorem dX21_says_251 : decode cX21_says 251 = .ok (.getfield 9, 3) := dk_180 0 9 (dk_at dksX21_says_10 18 rfl rfl)
theorem dX21_says_254 : decode cX21_says 254 = .ok (.getfield 106, 3) := dk_180 0 106 (dk_at dksX21_says_10 21 rfl rfl)
theorem dX21_says_257 : decode cX21_says 257 = .ok (.invokevirtual 100, 3) := dk_182 0 100 (dk_at dksX21_says_11 0 rfl rfl)
theorem dX21_says_260 : decode cX21_says 260 = .ok (.invokespecial 104, 3) := dk_183 0 104 (dk_at dksX21_says_11 3 rfl rfl)
theorem dX21_says_263 : decode cX21_says 263 = .ok (.goto 9, 3) := dk_167 0 9 (dk_at dksX21_says_11 6 rfl rfl)
theorem dX21_says_266 : decode cX21_says 266 = .ok (.aload_n 0, 1) := dk_42 (dk_at dksX21_says_11 9 rfl rfl)
theorem dX21_says_267 : decode cX21_says 267 = .ok (.iload 7, 2) := dk_21 7 (dk_at dksX21_says_11 10 rfl rfl)
theorem dX21_says_269 : decode cX21_says 269 = .ok (.invokevirtual 109, 3) := dk_182 0 109 (dk_at dksX21_says_11 12 rfl rfl)
theorem dX21_says_272 : decode cX21_says 272 = .ok (.astore 8, 2) := dk_58 8 (dk_at dksX21_says_11 15 rfl rfl)
theorem dX21_says_274 : decode cX21_says 274 = .ok (.aload_n 0, 1) := dk_42 (dk_at dksX21_says_11 17 rfl rfl)
theorem dX21_says_275 : decode cX21_says 275 = .ok (.dup, 1) := dk_89 (dk_at dksX21_says_11 18 rfl rfl)
theorem dX21_says_276 : decode cX21_says 276 = .ok (.getfield 76, 3) := dk_180 0 76 (dk_at dksX21_says_11 19 rfl rfl)
theorem dX21_says_279 : decode cX21_says 279 = .ok (.iconst 1, 1) := dk_4 (dk_at dksX21_says_11 22 rfl rfl)
theorem dX21_says_280 : decode cX21_says 280 = .ok (.isub, 1) := dk_100 (dk_at dksX21_says_11 23 rfl rfl)
theorem dX21_says_281 : decode cX21_says 281 = .ok (.putfield 76, 3) := dk_181 0 76 (dk_at dksX21_says_12 0 rfl rfl)
theorem dX21_says_284 : decode cX21_says 284 = .ok (.aload 8, 2) := dk_25 8 (dk_at dksX21_says_12 3 rfl rfl)
theorem dX21_says_286 : decode cX21_says 286 = .ok (.areturn, 1) := dk_176 (dk_at dksX21_says_12 5 rfl rfl)
theorem fw_X21_73 : cz_FW "HeldCoats$SentenceReader" 73 [(18, 10)] "I" := ⟨"HeldCoats$SentenceReader", "ones", Or.inl q1633, List.forall_mem_cons.mpr ⟨⟨RX21, TX21, 12, rfl, by decide, rfl, rfl, Or.inl rfl⟩, fun _ h => absurd h List.not_mem_nil⟩, by decide⟩
theorem fw_X21_76 : cz_FW "HeldCoats$SentenceReader" 76 [(18, 11)] "I" := ⟨"HeldCoats$SentenceReader", "within", Or.inl q1635, List.forall_mem_cons.mpr ⟨⟨RX21, TX21, 12, rfl, by decide, rfl, rfl, Or.inl rfl⟩, fun _ h => absurd h List.not_mem_nil⟩, by decide⟩
theorem fw_X21_94 : cz_FW "HeldCoats$SentenceReader" 94 [(1, 7)] "Ljava/util/ArrayList;" := ⟨"HeldCoats$Capital", "men", Or.inr ⟨_, q227⟩, List.forall_mem_cons.mpr ⟨⟨RX2, TX2, 11, rfl, by decide, rfl, rfl, Or.inl rfl⟩, fun _ h => absurd h List.not_mem_nil⟩, by decide⟩
theorem fw_X21_106 : cz_FW "HeldCoats$SentenceReader" 106 [(1, 8)] "Ljava/util/ArrayList;" := ⟨"HeldCoats$Capital", "coats", Or.inr ⟨_, q233⟩, List.forall_mem_cons.mpr ⟨⟨RX2, TX2, 11, rfl, by decide, rfl, rfl, Or.inl rfl⟩, fun _ h => absurd h List.not_mem_nil⟩, by decide⟩
theorem se_HeldCoats_SentenceReader_numbered___I_HeldCoats_SentenceReader : ∀ c ∈ ([18] : List Nat), ∃ q : vw_C, cz_cl[c]? = some q ∧ Cond.selects q.1 (⟨"HeldCoats$SentenceReader", "numbered", "()I"⟩ : MethodName) (⟨"HeldCoats$SentenceReader", "numbered", "()I"⟩ : MethodName) ∈ lw_all := List.forall_mem_cons.mpr ⟨⟨_, cz_cl18, qs41⟩, fun _ h => absurd h List.not_mem_nil⟩
theorem md_X21_numbered : cz_md yX21_numbered 1 (ws_ yX21_numbered cX21_numbered 1 ((Option.some Jvm.ClassFile.FieldType.int))) 0 := ⟨cz_ws_code q1682, q152, ⟨by decide, by decide, by decide +kernel⟩, by decide⟩
theorem fp_X21_m_18_10 {nm : String} : cz_FP "HeldCoats$SentenceReader" nm [(18, 10)] := List.forall_mem_cons.mpr ⟨⟨RX21, TX21, 12, rfl, Or.inl rfl⟩, fun _ h => absurd h List.not_mem_nil⟩
theorem fp_X21_m_18_11 {nm : String} : cz_FP "HeldCoats$SentenceReader" nm [(18, 11)] := List.forall_mem_cons.mpr ⟨⟨RX21, TX21, 12, rfl, Or.inl rfl⟩, fun _ h => absurd h List.not_mem_nil⟩
theorem nh_HeldCoats_IsSo__init___Z_V : cz_nh ⟨"HeldCoats$IsSo", "<init>", "(Z)V"⟩ 1 := ⟨by decide, by decide, by decide +kernel⟩
theorem se_HeldCoats_SentenceReader_than__I_LHeldCoats_Cond__HeldCoats_SentenceReader : ∀ c ∈ ([18] : List Nat), ∃ q : vw_C, cz_cl[c]? = some q ∧ Cond.selects q.1 (⟨"HeldCoats$SentenceReader", "than", "(I)LHeldCoats$Cond;"⟩ : MethodName) (⟨"HeldCoats$SentenceReader", "than", "(I)LHeldCoats$Cond;"⟩ : MethodName) ∈ lw_all := List.forall_mem_cons.mpr ⟨⟨_, cz_cl18, qs43⟩, fun _ h => absurd h List.not_mem_nil⟩
theorem md_X21_than : cz_md yX21_than 3 (ws_ yX21_than cX21_than 3 ((Option.some (Jvm.ClassFile.FieldType.object "HeldCoats$Cond")))) 1 := ⟨cz_ws_code q1736, q152, ⟨by decide, by decide, by decide +kernel⟩, by decide⟩
theorem se_HeldCoats_SentenceReader_one__Ljava_util_ArrayList__I_HeldCoats_Reader : ∀ c ∈ ([18] : List Nat), ∃ q : vw_C, cz_cl[c]? = some q ∧ Cond.selects q.1 (⟨"HeldCoats$SentenceReader", "one", "(Ljava/util/ArrayList;)I"⟩ : MethodName) (⟨"HeldCoats$Reader", "one", "(Ljava/util/ArrayList;)I"⟩ : MethodName) ∈ lw_all := List.forall_mem_cons.mpr ⟨⟨_, cz_cl18, q1721⟩, fun _ h => absurd h List.not_mem_nil⟩
theorem nh_HeldCoats_SentenceReader_one__Ljava_util_ArrayList__I : cz_nh ⟨"HeldCoats$SentenceReader", "one", "(Ljava/util/ArrayList;)I"⟩ 1 := ⟨by decide, by decide, by decide +kernel⟩
theorem nh_HeldCoats_Of__init___ZI_V : cz_nh ⟨"HeldCoats$Of", "<init>", "(ZI)V"⟩ 2 := ⟨by decide, by decide, by decide +kernel⟩
theorem nh_HeldCoats_Not__init___LHeldCoats_Cond__V : cz_nh ⟨"HeldCoats$Not", "<init>", "(LHeldCoats$Cond;)V"⟩ 1 := ⟨by decide, by decide, by decide +kernel⟩
theorem se_HeldCoats_SentenceReader_bracket___LHeldCoats_Cond__HeldCoats_SentenceReader : ∀ c ∈ ([18] : List Nat), ∃ q : vw_C, cz_cl[c]? = some q ∧ Cond.selects q.1 (⟨"HeldCoats$SentenceReader", "bracket", "()LHeldCoats$Cond;"⟩ : MethodName) (⟨"HeldCoats$SentenceReader", "bracket", "()LHeldCoats$Cond;"⟩ : MethodName) ∈ lw_all := List.forall_mem_cons.mpr ⟨⟨_, cz_cl18, qs42⟩, fun _ h => absurd h List.not_mem_nil⟩
theorem md_X21_bracket : cz_md yX21_bracket 2 (ws_ yX21_bracket cX21_bracket 2 ((Option.some (Jvm.ClassFile.FieldType.object "HeldCoats$Cond")))) 0 := ⟨cz_ws_code q1693, q152, ⟨by decide, by decide, by decide +kernel⟩, by decide⟩
set_option maxHeartbeats 4000000 in
set_option maxRecDepth 100000 in
noncomputable def fn_X21_says_b (F : Nat → Option Nat → cz_H → cz_Z) (l0 : Option Nat) (h : cz_H) : cz_Z := cz_getI h l0 [(18, 4)] (fun x1 => cz_jn (fun (v2 : Int32) (h3 : cz_H) => cz_rc h3 l0 [18] (cz_cI (fn_X6_is l0 (h3.1.2.2.2 16) h3) (fun x11 h10 => cz_rc h10 l0 [18] (cz_cI (fn_X6_is l0 (h10.1.2.2.2 17) h10) (fun x19 h18 => cz_rc h18 l0 [18] (cz_cI (fn_X6_is l0 (h18.1.2.2.2 18) h18) (fun x27 h26 => cz_rc h26 l0 [18] (cz_cI (fn_X6_is l0 (h26.1.2.2.2 19) h26) (fun x35 h34 => cz_rc h34 l0 [18] (cz_cI (fn_X6_is l0 (h34.1.2.2.2 20) h34) (fun x43 h42 => cz_rc h42 l0 [18] (cz_cI (fn_X21_numbered l0 h42) (fun x51 h50 => cz_jn (fun (v52 : Int32) (h53 : cz_H) => cz_rc h53 l0 [18] (cz_xV (fn_X6_need l0 v52 1 h53) (fun q61 h62 => cz_thr q61 h62) (fun h60 => cz_getI h60 l0 [(18, 10)] (fun x63 => cz_jn (fun (v64 : Int32) (h65 : cz_H) => cz_rc h65 l0 [18] (cz_xV (fn_X6_need l0 v64 4 h65) (fun q73 h74 => cz_thr q73 h74) (fun h72 => cz_getI h72 l0 [(18, 10)] (fun x75 => cz_put h72 l0 [(18, 10)] (cz_i (x75 + 1)) (fun h76 => cz_getI h76 l0 [(18, 11)] (fun x77 => cz_put h76 l0 [(18, 11)] (cz_i (x77 + 1)) (fun h78 => cz_rc h78 l0 [18] (cz_cV (fn_X6_go l0 h78) (fun h85 => cz_jn (fun (v86 : Option Nat) (h87 : cz_H) => cz_getI h87 l0 [(18, 11)] (fun x88 => cz_put h87 l0 [(18, 11)] (cz_i (x88 - 1)) (fun h89 => some (.inl (some (cz_r v86)), h89)))) (fun j90 => (if v2 = 0 then (if x11 = 0 then cz_jn (fun (h91 : cz_H) => cz_newo h91 20 1 (fun r92 h93 => cz_nn' r92 (cz_cV (fn_X24_init r92 x19 h93) (fun h96 => j90 r92 h96)))) (fun j97 => (if x19 = 0 then (if x27 = 0 then (if x35 = 0 then (if x43 = 0 then cz_rc h85 l0 [18] (cz_xR (fn_X21_than l0 x51 h85) (fun q105 h106 => cz_thr q105 h106) (fun r107 h104 => j90 r107 h104)) else cz_newo h85 21 2 (fun r108 h109 => cz_getR h109 l0 [(18, 9)] (fun r110 => cz_getR h109 r110 [(1, 8)] (fun r111 => cz_rc h109 l0 [18] (cz_xI (fn_X6_one l0 r111 h109) (fun q119 h120 => cz_thr q119 h120) (fun x121 h118 => cz_nn' r108 (cz_cV (fn_X25_init r108 0 x121 h118) (fun h124 => j90 r108 h124)))))))) else cz_newo h85 21 2 (fun r125 h126 => cz_getR h126 l0 [(18, 9)] (fun r127 => cz_getR h126 r127 [(1, 7)] (fun r128 => cz_rc h126 l0 [18] (cz_xI (fn_X6_one l0 r128 h126) (fun q136 h137 => cz_thr q136 h137) (fun x138 h135 => cz_nn' r125 (cz_cV (fn_X25_init r125 1 x138 h135) (fun h141 => j90 r125 h141)))))))) else j97 h85) else j97 h85)) else cz_newo h85 19 1 (fun r142 h143 => cz_rc h143 l0 [18] (cz_xR (F 2 l0 h143) (fun q151 h152 => cz_thr q151 h152) (fun r153 h150 => cz_nn' r142 (cz_cV (fn_X23_init r142 r153 h150) (fun h156 => j90 r142 h156)))))) else cz_rc h85 l0 [18] (cz_xR (F 3 l0 h85) (fun q164 h165 => cz_thr q164 h165) (fun r166 h163 => j90 r166 h163))))))))))))) (fun j167 => cz_jn (fun (h168 : cz_H) => j167 0 h168) (fun j169 => (if (20 : Int32) ≤ x63 then j169 h60 else cz_getI h60 l0 [(18, 11)] (fun x170 => (if (8 : Int32) ≤ x170 then j169 h60 else j167 1 h60))))))))) (fun j171 => cz_jn (fun (h172 : cz_H) => j171 1 h172) (fun j173 => (if v2 = 0 then (if x11 = 0 then (if x19 = 0 then (if x27 = 0 then (if x35 = 0 then (if x43 = 0 then (if x51 = (-1) then j171 0 h50 else j173 h50) else j173 h50) else j173 h50) else j173 h50) else j173 h50) else j173 h50) else j173 h50)))))))))))))))) (fun j174 => cz_jn (fun (h175 : cz_H) => j174 0 h175) (fun j176 => (if x1 = 6 then cz_getI h l0 [(18, 7)] (fun x177 => (if x177 = 40 then j174 1 h else j176 h)) else j176 h))))
set_option maxHeartbeats 4000000 in
set_option maxRecDepth 100000 in
theorem wk_X21_says {K : cz_K} {D : cz_D} {h0 : cz_H} {oh : cz_O × cz_H} {dd : Nat} {F : Nat → Option Nat → cz_H → cz_Z} {l0 : Option Nat} {h : cz_H} (hdd : 11 ≤ dd) (HF0 : ∀ (r : Option Nat) (h : cz_H) (oh' : cz_O × cz_H), F 0 r h = some oh' → cz_M K.2.1 D yX21_or (ws_ yX21_or cX21_or 2 ((Option.some (Jvm.ClassFile.FieldType.object "HeldCoats$Cond")))) dd [cz_r r] h oh') (HF1 : ∀ (r : Option Nat) (h : cz_H) (oh' : cz_O × cz_H), F 1 r h = some oh' → cz_M K.2.1 D yX21_and (ws_ yX21_and cX21_and 2 ((Option.some (Jvm.ClassFile.FieldType.object "HeldCoats$Cond")))) dd [cz_r r] h oh') (HF2 : ∀ (r : Option Nat) (h : cz_H) (oh' : cz_O × cz_H), F 2 r h = some oh' → cz_M K.2.1 D yX21_says (ws_ yX21_says cX21_says 9 ((Option.some (Jvm.ClassFile.FieldType.object "HeldCoats$Cond")))) dd [cz_r r] h oh') (HF3 : ∀ (r : Option Nat) (h : cz_H) (oh' : cz_O × cz_H), F 3 r h = some oh' → cz_M K.2.1 D yX21_bracket (ws_ yX21_bracket cX21_bracket 2 ((Option.some (Jvm.ClassFile.FieldType.object "HeldCoats$Cond")))) dd [cz_r r] h oh') (S : cz_S K D h0 cX21_says 9 "HeldCoats$SentenceReader" ((Option.some (Jvm.ClassFile.FieldType.object "HeldCoats$Cond"))) "says" ([])) : cz_T K D (dd + 1) h0 oh 9 (fn_X21_says_b F l0 h) h 0 [(0, cz_r l0)] [] := by
  unfold fn_X21_says_b
  refine ct_aload_n (k := 0) S dX21_says_0 rfl rfl ?_
  refine ct_getI S fw_X21_23 dX21_says_1 (fun x1 => ?_)
  refine ct_bipush (v := 6) S dX21_says_4 kB_6 ?_
  refine ct_jnP (fun j174 => ∀ (v2 : Int32) (h3 : cz_H), cz_T K D (dd + 1) h0 oh 9 (j174 v2 h3) h3 23 [(0, cz_r l0)] [cz_i v2]) (fun v2 h3 => ?_) (fun j174 Hj174 => ?_)
  · refine ct_istore_n (L' := [(1, cz_i v2), (0, cz_r l0)]) S dX21_says_23 rfl (by decide) rfl ?_
    refine ct_aload_n (k := 1) S dX21_says_24 rfl rfl ?_
    refine ct_ldcS (i := 16) S rfl dX21_says_25 ?_
    refine ct_rc (fun b4 ci5 V6 hb7 hc8 hi9 => ?_)
    refine ct_cI (st := []) (cg_up (owner := "HeldCoats$Reader") (av := [cz_r (h3.1.2.2.2 16)]) S hb7 hc8 hi9 (fun _ e => mt_X6_is e) q727 q1672 q1673 (Or.inl q724) ⟨by decide, by decide⟩ q726 q124 nh_HeldCoats_SentenceReader_is__Ljava_lang_String__Z se_HeldCoats_SentenceReader_is__Ljava_lang_String__Z_HeldCoats_Reader (by decide) (by omega) (Nat.le_of_ble_eq_true rfl) rfl dX21_says_27) (fun x11 h10 => ?_)
    refine ct_istore_n (L' := [(2, cz_i x11), (1, cz_i v2), (0, cz_r l0)]) S dX21_says_30 rfl (by decide) rfl ?_
    refine ct_aload_n (k := 2) S dX21_says_31 rfl rfl ?_
    refine ct_ldcS (i := 17) S rfl dX21_says_32 ?_
    refine ct_rc (fun b12 ci13 V14 hb15 hc16 hi17 => ?_)
    refine ct_cI (st := []) (cg_up (owner := "HeldCoats$Reader") (av := [cz_r (h10.1.2.2.2 17)]) S hb15 hc16 hi17 (fun _ e => mt_X6_is e) q727 q1672 q1673 (Or.inl q724) ⟨by decide, by decide⟩ q726 q124 nh_HeldCoats_SentenceReader_is__Ljava_lang_String__Z se_HeldCoats_SentenceReader_is__Ljava_lang_String__Z_HeldCoats_Reader (by decide) (by omega) (Nat.le_of_ble_eq_true rfl) rfl dX21_says_34) (fun x19 h18 => ?_)
    refine ct_istore_n (L' := [(3, cz_i x19), (2, cz_i x11), (1, cz_i v2), (0, cz_r l0)]) S dX21_says_37 rfl (by decide) rfl ?_
    refine ct_aload_n (k := 3) S dX21_says_38 rfl rfl ?_
    refine ct_ldcS (i := 18) S rfl dX21_says_39 ?_
    refine ct_rc (fun b20 ci21 V22 hb23 hc24 hi25 => ?_)
    refine ct_cI (st := []) (cg_up (owner := "HeldCoats$Reader") (av := [cz_r (h18.1.2.2.2 18)]) S hb23 hc24 hi25 (fun _ e => mt_X6_is e) q727 q1672 q1673 (Or.inl q724) ⟨by decide, by decide⟩ q726 q124 nh_HeldCoats_SentenceReader_is__Ljava_lang_String__Z se_HeldCoats_SentenceReader_is__Ljava_lang_String__Z_HeldCoats_Reader (by decide) (by omega) (Nat.le_of_ble_eq_true rfl) rfl dX21_says_41) (fun x27 h26 => ?_)
    refine ct_istore (L' := [(4, cz_i x27), (3, cz_i x19), (2, cz_i x11), (1, cz_i v2), (0, cz_r l0)]) S dX21_says_44 (by decide) rfl ?_
    refine ct_aload_n (k := 4) S dX21_says_46 rfl rfl ?_
    refine ct_ldcS (i := 19) S rfl dX21_says_47 ?_
    refine ct_rc (fun b28 ci29 V30 hb31 hc32 hi33 => ?_)
    refine ct_cI (st := []) (cg_up (owner := "HeldCoats$Reader") (av := [cz_r (h26.1.2.2.2 19)]) S hb31 hc32 hi33 (fun _ e => mt_X6_is e) q727 q1672 q1673 (Or.inl q724) ⟨by decide, by decide⟩ q726 q124 nh_HeldCoats_SentenceReader_is__Ljava_lang_String__Z se_HeldCoats_SentenceReader_is__Ljava_lang_String__Z_HeldCoats_Reader (by decide) (by omega) (Nat.le_of_ble_eq_true rfl) rfl dX21_says_49) (fun x35 h34 => ?_)
    refine ct_istore (L' := [(5, cz_i x35), (4, cz_i x27), (3, cz_i x19), (2, cz_i x11), (1, cz_i v2), (0, cz_r l0)]) S dX21_says_52 (by decide) rfl ?_
    refine ct_aload_n (k := 5) S dX21_says_54 rfl rfl ?_
    refine ct_ldcS (i := 20) S rfl dX21_says_55 ?_
    refine ct_rc (fun b36 ci37 V38 hb39 hc40 hi41 => ?_)
    refine ct_cI (st := []) (cg_up (owner := "HeldCoats$Reader") (av := [cz_r (h34.1.2.2.2 20)]) S hb39 hc40 hi41 (fun _ e => mt_X6_is e) q727 q1672 q1673 (Or.inl q724) ⟨by decide, by decide⟩ q726 q124 nh_HeldCoats_SentenceReader_is__Ljava_lang_String__Z se_HeldCoats_SentenceReader_is__Ljava_lang_String__Z_HeldCoats_Reader (by decide) (by omega) (Nat.le_of_ble_eq_true rfl) rfl dX21_says_57) (fun x43 h42 => ?_)
    refine ct_istore (L' := [(6, cz_i x43), (5, cz_i x35), (4, cz_i x27), (3, cz_i x19), (2, cz_i x11), (1, cz_i v2), (0, cz_r l0)]) S dX21_says_60 (by decide) rfl ?_
    refine ct_aload_n (k := 6) S dX21_says_62 rfl rfl ?_
    refine ct_rc (fun b44 ci45 V46 hb47 hc48 hi49 => ?_)
    refine ct_cI (st := []) (cg_virtual (av := []) S hb47 hc48 hi49 (fun _ e => mt_X21_numbered e) md_X21_numbered q1679 q1681 se_HeldCoats_SentenceReader_numbered___I_HeldCoats_SentenceReader (by omega) (Nat.le_of_ble_eq_true rfl) rfl dX21_says_63) (fun x51 h50 => ?_)
    refine ct_istore (L' := [(7, cz_i x51), (6, cz_i x43), (5, cz_i x35), (4, cz_i x27), (3, cz_i x19), (2, cz_i x11), (1, cz_i v2), (0, cz_r l0)]) S dX21_says_66 (by decide) rfl ?_
    refine ct_aload_n (k := 7) S dX21_says_68 rfl rfl ?_
    refine ct_iload_n (k := 6) S dX21_says_69 rfl rfl ?_
    refine ct_jnP (fun j171 => ∀ (v52 : Int32) (h53 : cz_H), cz_T K D (dd + 1) h0 oh 9 (j171 v52 h53) h53 107 [(0, cz_r l0), (1, cz_i v2), (2, cz_i x11), (3, cz_i x19), (4, cz_i x27), (5, cz_i x35), (6, cz_i x43), (7, cz_i x51)] [cz_i v52, cz_r l0]) (fun v52 h53 => ?_) (fun j171 Hj171 => ?_)
    · refine ct_iconst (v := 1) S dX21_says_107 kI_1 ?_
      refine ct_rc (fun b54 ci55 V56 hb57 hc58 hi59 => ?_)
      refine ct_xV (st := []) (cg_up (owner := "HeldCoats$Reader") (av := [cz_i v52, cz_i 1]) S hb57 hc58 hi59 (fun _ e => mt_X6_need e) q750 q1687 q1688 (Or.inl q747) ⟨by decide, by decide⟩ q749 q124 nh_HeldCoats_SentenceReader_need__ZI_V se_HeldCoats_SentenceReader_need__ZI_V_HeldCoats_Reader (by decide) (by omega) (Nat.le_of_ble_eq_true rfl) rfl dX21_says_108) (fun q61 h62 => ?_) (fun h60 => ?_)
      · exact ct_out S (fun x hx => by cases hx)
      · refine ct_aload_n (k := 0) S dX21_says_111 rfl rfl ?_
        refine ct_aload_n (k := 0) S dX21_says_112 rfl rfl ?_
        refine ct_getI S fw_X21_73 dX21_says_113 (fun x63 => ?_)
        refine ct_bipush (v := 20) S dX21_says_116 kB_20 ?_
        refine ct_jnP (fun j167 => ∀ (v64 : Int32) (h65 : cz_H), cz_T K D (dd + 1) h0 oh 9 (j167 v64 h65) h65 135 [(0, cz_r l0), (1, cz_i v2), (2, cz_i x11), (3, cz_i x19), (4, cz_i x27), (5, cz_i x35), (6, cz_i x43), (7, cz_i x51)] [cz_i v64, cz_r l0]) (fun v64 h65 => ?_) (fun j167 Hj167 => ?_)
        · refine ct_iconst (v := 4) S dX21_says_135 kI_4 ?_
          refine ct_rc (fun b66 ci67 V68 hb69 hc70 hi71 => ?_)
          refine ct_xV (st := []) (cg_up (owner := "HeldCoats$Reader") (av := [cz_i v64, cz_i 4]) S hb69 hc70 hi71 (fun _ e => mt_X6_need e) q750 q1687 q1688 (Or.inl q747) ⟨by decide, by decide⟩ q749 q124 nh_HeldCoats_SentenceReader_need__ZI_V se_HeldCoats_SentenceReader_need__ZI_V_HeldCoats_Reader (by decide) (by omega) (Nat.le_of_ble_eq_true rfl) rfl dX21_says_136) (fun q73 h74 => ?_) (fun h72 => ?_)
          · exact ct_out S (fun x hx => by cases hx)
          · refine ct_aload_n (k := 0) S dX21_says_139 rfl rfl ?_
            refine ct_dup S dX21_says_140 rfl ?_
            refine ct_getI S fw_X21_73 dX21_says_141 (fun x75 => ?_)
            refine ct_iconst (v := 1) S dX21_says_144 kI_1 ?_
            refine ct_iadd S dX21_says_145 ?_
            refine ct_put S fw_X21_73 fp_X21_m_18_10 (cz_fits_i pd_I) dX21_says_146 (fun h76 => ?_)
            refine ct_aload_n (k := 0) S dX21_says_149 rfl rfl ?_
            refine ct_dup S dX21_says_150 rfl ?_
            refine ct_getI S fw_X21_76 dX21_says_151 (fun x77 => ?_)
            refine ct_iconst (v := 1) S dX21_says_154 kI_1 ?_
            refine ct_iadd S dX21_says_155 ?_
            refine ct_put S fw_X21_76 fp_X21_m_18_11 (cz_fits_i pd_I) dX21_says_156 (fun h78 => ?_)
            refine ct_aload_n (k := 0) S dX21_says_159 rfl rfl ?_
            refine ct_rc (fun b79 ci80 V81 hb82 hc83 hi84 => ?_)
            refine ct_cV (st := []) (cg_up (owner := "HeldCoats$Reader") (av := []) S hb82 hc83 hi84 (fun _ e => mt_X6_go e) q521 q1656 q1657 (Or.inl q518) ⟨by decide, by decide⟩ q520 q124 nh_HeldCoats_SentenceReader_go___V se_HeldCoats_SentenceReader_go___V_HeldCoats_Reader (by decide) (by omega) (Nat.le_of_ble_eq_true rfl) rfl dX21_says_160) (fun h85 => ?_)
            refine ct_iload_n (k := 1) S dX21_says_163 rfl rfl ?_
            refine ct_jnP (fun j90 => ∀ (v86 : Option Nat) (h87 : cz_H), cz_T K D (dd + 1) h0 oh 9 (j90 v86 h87) h87 272 [(0, cz_r l0)] [cz_r v86]) (fun v86 h87 => ?_) (fun j90 Hj90 => ?_)
            · refine ct_astore (L' := [(8, cz_r v86), (0, cz_r l0)]) S dX21_says_272 (by decide) rfl ?_
              refine ct_aload_n (k := 1) S dX21_says_274 rfl rfl ?_
              refine ct_dup S dX21_says_275 rfl ?_
              refine ct_getI S fw_X21_76 dX21_says_276 (fun x88 => ?_)
              refine ct_iconst (v := 1) S dX21_says_279 kI_1 ?_
              refine ct_isub S dX21_says_280 ?_
              refine ct_put S fw_X21_76 fp_X21_m_18_11 (cz_fits_i pd_I) dX21_says_281 (fun h89 => ?_)
              refine ct_aload (k := 0) S dX21_says_284 rfl ?_
              exact ct_aret S rfl (Or.inl ⟨_, rfl⟩) dX21_says_286
            · refine ct_if_eq (tgt := 174) S dX21_says_164 (by decide) ?_ ?_
              · refine ct_iload_n (k := 2) S dX21_says_174 rfl rfl ?_
                refine ct_if_eq (tgt := 192) S dX21_says_175 (by decide) ?_ ?_
                · refine ct_iload_n (k := 3) S dX21_says_192 rfl rfl ?_
                  refine ct_jnP (fun j97 => ∀ (h91 : cz_H), cz_T K D (dd + 1) h0 oh 9 (j97 h91) h91 201 [(0, cz_r l0), (3, cz_i x19)] []) (fun h91 => ?_) (fun j97 Hj97 => ?_)
                  · refine ct_newo S (by decide) cz_cl20 q1707 dX21_says_201 (fun r92 h93 => ?_)
                    refine ct_dup S dX21_says_204 rfl ?_
                    refine ct_iload_n (k := 1) S dX21_says_205 rfl rfl ?_
                    refine ct_nn (fun b94 hb95 => ?_)
                    refine ct_cV (st := [cz_r r92]) (cg_init (av := [cz_i x19]) S hb95 (fun _ e => mt_X24_init e) q1711 (Or.inl q1709) rfl q1710 q155 nh_HeldCoats_IsSo__init___Z_V (by decide) (by omega) (Nat.le_of_ble_eq_true rfl) rfl dX21_says_206) (fun h96 => ?_)
                    refine ct_goto (tgt := 272) S dX21_says_209 (by decide) ?_
                    exact ct_sub [0] rfl (Hj90 r92 h96)
                  · refine ct_if_ne (tgt := 201) S dX21_says_193 (by decide) ?_ ?_
                    · exact ct_sub [0, 3] rfl (Hj97 h85)
                    · refine ct_iload (k := 4) S dX21_says_196 rfl ?_
                      refine ct_if_eq (tgt := 212) S dX21_says_198 (by decide) ?_ ?_
                      · refine ct_iload (k := 5) S dX21_says_212 rfl ?_
                        refine ct_if_eq (tgt := 239) S dX21_says_214 (by decide) ?_ ?_
                        · refine ct_iload (k := 6) S dX21_says_239 rfl ?_
                          refine ct_if_eq (tgt := 266) S dX21_says_241 (by decide) ?_ ?_
                          · refine ct_aload_n (k := 0) S dX21_says_266 rfl rfl ?_
                            refine ct_iload (k := 7) S dX21_says_267 rfl ?_
                            refine ct_rc (fun b98 ci99 V100 hb101 hc102 hi103 => ?_)
                            refine ct_xR (st := []) (cg_virtual (av := [cz_i x51]) S hb101 hc102 hi103 (fun _ e => mt_X21_than e) md_X21_than q1733 q1735 se_HeldCoats_SentenceReader_than__I_LHeldCoats_Cond__HeldCoats_SentenceReader (by omega) (Nat.le_of_ble_eq_true rfl) rfl dX21_says_269) (fun q105 h106 => ?_) (fun r107 h104 => ?_)
                            · exact ct_out S (fun x hx => by cases hx)
                            · exact ct_sub [0] rfl (Hj90 r107 h104)
                          · refine ct_newo S (by decide) cz_cl21 q1717 dX21_says_244 (fun r108 h109 => ?_)
                            refine ct_dup S dX21_says_247 rfl ?_
                            refine ct_iconst (v := 0) S dX21_says_248 kI_0 ?_
                            refine ct_aload_n (k := 0) S dX21_says_249 rfl rfl ?_
                            refine ct_aload_n (k := 0) S dX21_says_250 rfl rfl ?_
                            refine ct_getR S fw_X21_9 dX21_says_251 (fun r110 => ?_)
                            refine ct_getR S fw_X21_106 dX21_says_254 (fun r111 => ?_)
                            refine ct_rc (fun b112 ci113 V114 hb115 hc116 hi117 => ?_)
                            refine ct_xI (st := [cz_i 0, cz_r r108, cz_r r108]) (cg_up (owner := "HeldCoats$Reader") (av := [cz_r r111]) S hb115 hc116 hi117 (fun _ e => mt_X6_one e) q1018 q1719 q1720 (Or.inl q1015) ⟨by decide, by decide⟩ q1017 q124 nh_HeldCoats_SentenceReader_one__Ljava_util_ArrayList__I se_HeldCoats_SentenceReader_one__Ljava_util_ArrayList__I_HeldCoats_Reader (by decide) (by omega) (Nat.le_of_ble_eq_true rfl) rfl dX21_says_257) (fun q119 h120 => ?_) (fun x121 h118 => ?_)
                            · exact ct_out S (fun x hx => by cases hx)
                            · refine ct_nn (fun b122 hb123 => ?_)
                              refine ct_cV (st := [cz_r r108]) (cg_init (av := [cz_i 0, cz_i x121]) S hb123 (fun _ e => mt_X25_init e) q1724 (Or.inl q1722) rfl q1723 q156 nh_HeldCoats_Of__init___ZI_V (by decide) (by omega) (Nat.le_of_ble_eq_true rfl) rfl dX21_says_260) (fun h124 => ?_)
                              refine ct_goto (tgt := 272) S dX21_says_263 (by decide) ?_
                              exact ct_sub [0] rfl (Hj90 r108 h124)
                        · refine ct_newo S (by decide) cz_cl21 q1717 dX21_says_217 (fun r125 h126 => ?_)
                          refine ct_dup S dX21_says_220 rfl ?_
                          refine ct_iconst (v := 1) S dX21_says_221 kI_1 ?_
                          refine ct_aload_n (k := 0) S dX21_says_222 rfl rfl ?_
                          refine ct_aload_n (k := 0) S dX21_says_223 rfl rfl ?_
                          refine ct_getR S fw_X21_9 dX21_says_224 (fun r127 => ?_)
                          refine ct_getR S fw_X21_94 dX21_says_227 (fun r128 => ?_)
                          refine ct_rc (fun b129 ci130 V131 hb132 hc133 hi134 => ?_)
                          refine ct_xI (st := [cz_i 1, cz_r r125, cz_r r125]) (cg_up (owner := "HeldCoats$Reader") (av := [cz_r r128]) S hb132 hc133 hi134 (fun _ e => mt_X6_one e) q1018 q1719 q1720 (Or.inl q1015) ⟨by decide, by decide⟩ q1017 q124 nh_HeldCoats_SentenceReader_one__Ljava_util_ArrayList__I se_HeldCoats_SentenceReader_one__Ljava_util_ArrayList__I_HeldCoats_Reader (by decide) (by omega) (Nat.le_of_ble_eq_true rfl) rfl dX21_says_230) (fun q136 h137 => ?_) (fun x138 h135 => ?_)
                          · exact ct_out S (fun x hx => by cases hx)
                          · refine ct_nn (fun b139 hb140 => ?_)
                            refine ct_cV (st := [cz_r r125]) (cg_init (av := [cz_i 1, cz_i x138]) S hb140 (fun _ e => mt_X25_init e) q1724 (Or.inl q1722) rfl q1723 q156 nh_HeldCoats_Of__init___ZI_V (by decide) (by omega) (Nat.le_of_ble_eq_true rfl) rfl dX21_says_233) (fun h141 => ?_)
                            refine ct_goto (tgt := 272) S dX21_says_236 (by decide) ?_
                            exact ct_sub [0] rfl (Hj90 r125 h141)
                      · exact ct_sub [0, 3] rfl (Hj97 h85)
                · refine ct_newo S (by decide) cz_cl19 q1694 dX21_says_178 (fun r142 h143 => ?_)
                  refine ct_dup S dX21_says_181 rfl ?_
                  refine ct_aload_n (k := 0) S dX21_says_182 rfl rfl ?_
                  refine ct_rc (fun b144 ci145 V146 hb147 hc148 hi149 => ?_)
                  refine ct_xR (st := [cz_r r142, cz_r r142]) (cg_virtual (av := []) S hb147 hc148 hi149 (fun _ e => HF2 _ _ _ e) md_X21_says q1667 q1669 se_HeldCoats_SentenceReader_says___LHeldCoats_Cond__HeldCoats_SentenceReader (by omega) (Nat.le_of_ble_eq_true rfl) rfl dX21_says_183) (fun q151 h152 => ?_) (fun r153 h150 => ?_)
                  · exact ct_out S (fun x hx => by cases hx)
                  · refine ct_nn (fun b154 hb155 => ?_)
                    refine ct_cV (st := [cz_r r142]) (cg_init (av := [cz_r r153]) S hb155 (fun _ e => mt_X23_init e) q1698 (Or.inl q1696) rfl q1697 q154 nh_HeldCoats_Not__init___LHeldCoats_Cond__V (by decide) (by omega) (Nat.le_of_ble_eq_true rfl) rfl dX21_says_186) (fun h156 => ?_)
                    refine ct_goto (tgt := 272) S dX21_says_189 (by decide) ?_
                    exact ct_sub [0] rfl (Hj90 r142 h156)
              · refine ct_aload_n (k := 0) S dX21_says_167 rfl rfl ?_
                refine ct_rc (fun b157 ci158 V159 hb160 hc161 hi162 => ?_)
                refine ct_xR (st := []) (cg_virtual (av := []) S hb160 hc161 hi162 (fun _ e => HF3 _ _ _ e) md_X21_bracket q1690 q1692 se_HeldCoats_SentenceReader_bracket___LHeldCoats_Cond__HeldCoats_SentenceReader (by omega) (Nat.le_of_ble_eq_true rfl) rfl dX21_says_168) (fun q164 h165 => ?_) (fun r166 h163 => ?_)
                · exact ct_out S (fun x hx => by cases hx)
                · refine ct_goto (tgt := 272) S dX21_says_171 (by decide) ?_
                  exact ct_sub [0] rfl (Hj90 r166 h163)
        · refine ct_jnP (fun j169 => ∀ (h168 : cz_H), cz_T K D (dd + 1) h0 oh 9 (j169 h168) h168 134 [(0, cz_r l0), (1, cz_i v2), (2, cz_i x11), (3, cz_i x19), (4, cz_i x27), (5, cz_i x35), (6, cz_i x43), (7, cz_i x51)] [cz_r l0]) (fun h168 => ?_) (fun j169 Hj169 => ?_)
          · refine ct_iconst (v := 0) S dX21_says_134 kI_0 ?_
            exact Hj167 0 h168
          · refine ct_icmp_ge (tgt := 134) S dX21_says_118 (by decide) ?_ ?_
            · exact Hj169 h60
            · refine ct_aload_n (k := 0) S dX21_says_121 rfl rfl ?_
              refine ct_getI S fw_X21_76 dX21_says_122 (fun x170 => ?_)
              refine ct_bipush (v := 8) S dX21_says_125 kB_8 ?_
              refine ct_icmp_ge (tgt := 134) S dX21_says_127 (by decide) ?_ ?_
              · exact Hj169 h60
              · refine ct_iconst (v := 1) S dX21_says_130 kI_1 ?_
                refine ct_goto (tgt := 135) S dX21_says_131 (by decide) ?_
                exact Hj167 1 h60
    · refine ct_jnP (fun j173 => ∀ (h172 : cz_H), cz_T K D (dd + 1) h0 oh 9 (j173 h172) h172 102 [(0, cz_r l0), (1, cz_i v2), (2, cz_i x11), (3, cz_i x19), (4, cz_i x27), (5, cz_i x35), (6, cz_i x43), (7, cz_i x51)] [cz_r l0]) (fun h172 => ?_) (fun j173 Hj173 => ?_)
      · refine ct_iconst (v := 1) S dX21_says_102 kI_1 ?_
        refine ct_goto (tgt := 107) S dX21_says_103 (by decide) ?_
        exact Hj171 1 h172
      · refine ct_if_ne (tgt := 102) S dX21_says_70 (by decide) ?_ ?_
        · exact ct_sub [7, 6, 5, 4, 3, 2, 1, 0] rfl (Hj173 h50)
        · refine ct_iload_n (k := 5) S dX21_says_73 rfl rfl ?_
          refine ct_if_ne (tgt := 102) S dX21_says_74 (by decide) ?_ ?_
          · exact ct_sub [7, 6, 5, 4, 3, 2, 1, 0] rfl (Hj173 h50)
          · refine ct_iload_n (k := 4) S dX21_says_77 rfl rfl ?_
            refine ct_if_ne (tgt := 102) S dX21_says_78 (by decide) ?_ ?_
            · exact ct_sub [7, 6, 5, 4, 3, 2, 1, 0] rfl (Hj173 h50)
            · refine ct_iload (k := 3) S dX21_says_81 rfl ?_
              refine ct_if_ne (tgt := 102) S dX21_says_83 (by decide) ?_ ?_
              · exact ct_sub [7, 6, 5, 4, 3, 2, 1, 0] rfl (Hj173 h50)
              · refine ct_iload (k := 2) S dX21_says_86 rfl ?_
                refine ct_if_ne (tgt := 102) S dX21_says_88 (by decide) ?_ ?_
                · exact ct_sub [7, 6, 5, 4, 3, 2, 1, 0] rfl (Hj173 h50)
                · refine ct_iload (k := 1) S dX21_says_91 rfl ?_
                  refine ct_if_ne (tgt := 102) S dX21_says_93 (by decide) ?_ ?_
                  · exact ct_sub [7, 6, 5, 4, 3, 2, 1, 0] rfl (Hj173 h50)
                  · refine ct_iload (k := 0) S dX21_says_96 rfl ?_
                    refine ct_iconst (v := (-1)) S dX21_says_98 kI_m1 ?_
                    refine ct_icmp_eq (tgt := 106) S dX21_says_99 (by decide) ?_ ?_
                    · refine ct_iconst (v := 0) S dX21_says_106 kI_0 ?_
                      exact ct_sub [7, 6, 5, 4, 3, 2, 1, 0] rfl (Hj171 0 h50)
                    · exact ct_sub [7, 6, 5, 4, 3, 2, 1, 0] rfl (Hj173 h50)
  · refine ct_jnP (fun j176 => ∀ (h175 : cz_H), cz_T K D (dd + 1) h0 oh 9 (j176 h175) h175 22 [(0, cz_r l0)] []) (fun h175 => ?_) (fun j176 Hj176 => ?_)
    · refine ct_iconst (v := 0) S dX21_says_22 kI_0 ?_
      exact Hj174 0 h175
    · refine ct_icmp_ne (tgt := 22) S dX21_says_6 (by decide) ?_ ?_
      · exact Hj176 h
      · refine ct_aload_n (k := 0) S dX21_says_9 rfl rfl ?_
        refine ct_getI S fw_X21_56 dX21_says_10 (fun x177 => ?_)
        refine ct_bipush (v := 40) S dX21_says_13 kB_40 ?_
        refine ct_icmp_ne (tgt := 22) S dX21_says_15 (by decide) ?_ ?_
        · exact Hj176 h
        · refine ct_iconst (v := 1) S dX21_says_18 kI_1 ?_
          refine ct_goto (tgt := 23) S dX21_says_19 (by decide) ?_
          exact Hj174 1 h
/-! HeldCoats$SentenceReader.bracket()LHeldCoats$Cond; -/
def dkwX21_bracket_1 : List UInt8 := [4, 167, 0, 4, 3, 4, 182, 0, 27, 42, 182, 0, 15, 43, 176]
abbrev dktX21_bracket_1 : List UInt8 := dkwX21_bracket_1 ++ []
def dkwX21_bracket_0 : List UInt8 := [42, 182, 0, 19, 76, 42, 42, 180, 0, 23, 16, 6, 160, 0, 16, 42, 180, 0, 56, 16, 41, 160, 0, 7]
abbrev dktX21_bracket_0 : List UInt8 := dkwX21_bracket_0 ++ dktX21_bracket_1
theorem dksX21_bracket_0 : cX21_bracket.data.toList.drop 0 = dktX21_bracket_0 := by decide +kernel
theorem dksX21_bracket_1 : cX21_bracket.data.toList.drop 24 = dktX21_bracket_1 := dk_seg dksX21_bracket_0 24 rfl rfl
theorem dX21_bracket_0 : decode cX21_bracket 0 = .ok (.aload_n 0, 1) := dk_42 (dk_at dksX21_bracket_0 0 rfl rfl)
theorem dX21_bracket_1 : decode cX21_bracket 1 = .ok (.invokevirtual 19, 3) := dk_182 0 19 (dk_at dksX21_bracket_0 1 rfl rfl)
theorem dX21_bracket_4 : decode cX21_bracket 4 = .ok (.astore_n 1, 1) := dk_76 (dk_at dksX21_bracket_0 4 rfl rfl)
theorem dX21_bracket_5 : decode cX21_bracket 5 = .ok (.aload_n 0, 1) := dk_42 (dk_at dksX21_bracket_0 5 rfl rfl)
theorem dX21_bracket_6 : decode cX21_bracket 6 = .ok (.aload_n 0, 1) := dk_42 (dk_at dksX21_bracket_0 6 rfl rfl)
theorem dX21_bracket_7 : decode cX21_bracket 7 = .ok (.getfield 23, 3) := dk_180 0 23 (dk_at dksX21_bracket_0 7 rfl rfl)
theorem dX21_bracket_10 : decode cX21_bracket 10 = .ok (.bipush 6, 2) := dk_16 6 (dk_at dksX21_bracket_0 10 rfl rfl)
theorem dX21_bracket_12 : decode cX21_bracket 12 = .ok (.if_icmp .ne 16, 3) := dk_160 0 16 (dk_at dksX21_bracket_0 12 rfl rfl)
theorem dX21_bracket_15 : decode cX21_bracket 15 = .ok (.aload_n 0, 1) := dk_42 (dk_at dksX21_bracket_0 15 rfl rfl)
theorem dX21_bracket_16 : decode cX21_bracket 16 = .ok (.getfield 56, 3) := dk_180 0 56 (dk_at dksX21_bracket_0 16 rfl rfl)
theorem dX21_bracket_19 : decode cX21_bracket 19 = .ok (.bipush 41, 2) := dk_16 41 (dk_at dksX21_bracket_0 19 rfl rfl)
theorem dX21_bracket_21 : decode cX21_bracket 21 = .ok (.if_icmp .ne 7, 3) := dk_160 0 7 (dk_at dksX21_bracket_0 21 rfl rfl)
theorem dX21_bracket_24 : decode cX21_bracket 24 = .ok (.iconst 1, 1) := dk_4 (dk_at dksX21_bracket_1 0 rfl rfl)
theorem dX21_bracket_25 : decode cX21_bracket 25 = .ok (.goto 4, 3) := dk_167 0 4 (dk_at dksX21_bracket_1 1 rfl rfl)
theorem dX21_bracket_28 : decode cX21_bracket 28 = .ok (.iconst 0, 1) := dk_3 (dk_at dksX21_bracket_1 4 rfl rfl)
theorem dX21_bracket_29 : decode cX21_bracket 29 = .ok (.iconst 1, 1) := dk_4 (dk_at dksX21_bracket_1 5 rfl rfl)
theorem dX21_bracket_30 : decode cX21_bracket 30 = .ok (.invokevirtual 27, 3) := dk_182 0 27 (dk_at dksX21_bracket_1 6 rfl rfl)
theorem dX21_bracket_33 : decode cX21_bracket 33 = .ok (.aload_n 0, 1) := dk_42 (dk_at dksX21_bracket_1 9 rfl rfl)
theorem dX21_bracket_34 : decode cX21_bracket 34 = .ok (.invokevirtual 15, 3) := dk_182 0 15 (dk_at dksX21_bracket_1 10 rfl rfl)
theorem dX21_bracket_37 : decode cX21_bracket 37 = .ok (.aload_n 1, 1) := dk_43 (dk_at dksX21_bracket_1 13 rfl rfl)
theorem dX21_bracket_38 : decode cX21_bracket 38 = .ok (.areturn, 1) := dk_176 (dk_at dksX21_bracket_1 14 rfl rfl)
theorem se_HeldCoats_SentenceReader_or___LHeldCoats_Cond__HeldCoats_SentenceReader : ∀ c ∈ ([18] : List Nat), ∃ q : vw_C, cz_cl[c]? = some q ∧ Cond.selects q.1 (⟨"HeldCoats$SentenceReader", "or", "()LHeldCoats$Cond;"⟩ : MethodName) (⟨"HeldCoats$SentenceReader", "or", "()LHeldCoats$Cond;"⟩ : MethodName) ∈ lw_all := List.forall_mem_cons.mpr ⟨⟨_, cz_cl18, qs38⟩, fun _ h => absurd h List.not_mem_nil⟩
theorem md_X21_or : cz_md yX21_or 2 (ws_ yX21_or cX21_or 2 ((Option.some (Jvm.ClassFile.FieldType.object "HeldCoats$Cond")))) 0 := ⟨cz_ws_code q1662, q152, ⟨by decide, by decide, by decide +kernel⟩, by decide⟩
set_option maxHeartbeats 4000000 in
set_option maxRecDepth 100000 in
noncomputable def fn_X21_bracket_b (F : Nat → Option Nat → cz_H → cz_Z) (l0 : Option Nat) (h : cz_H) : cz_Z := cz_rc h l0 [18] (cz_xR (F 0 l0 h) (fun q8 h9 => cz_thr q8 h9) (fun r10 h7 => cz_getI h7 l0 [(18, 4)] (fun x11 => cz_jn (fun (h12 : cz_H) => cz_rc h12 l0 [18] (cz_xV (fn_X6_need l0 0 1 h12) (fun q20 h21 => cz_thr q20 h21) (fun h19 => cz_rc h19 l0 [18] (cz_cV (fn_X6_go l0 h19) (fun h28 => some (.inl (some (cz_r r10)), h28)))))) (fun j29 => (if x11 = 6 then cz_getI h7 l0 [(18, 7)] (fun x30 => (if x30 = 41 then cz_rc h7 l0 [18] (cz_xV (fn_X6_need l0 1 1 h7) (fun q38 h39 => cz_thr q38 h39) (fun h37 => cz_rc h37 l0 [18] (cz_cV (fn_X6_go l0 h37) (fun h46 => some (.inl (some (cz_r r10)), h46))))) else j29 h7)) else j29 h7)))))
set_option maxHeartbeats 4000000 in
set_option maxRecDepth 100000 in
theorem wk_X21_bracket {K : cz_K} {D : cz_D} {h0 : cz_H} {oh : cz_O × cz_H} {dd : Nat} {F : Nat → Option Nat → cz_H → cz_Z} {l0 : Option Nat} {h : cz_H} (hdd : 11 ≤ dd) (HF0 : ∀ (r : Option Nat) (h : cz_H) (oh' : cz_O × cz_H), F 0 r h = some oh' → cz_M K.2.1 D yX21_or (ws_ yX21_or cX21_or 2 ((Option.some (Jvm.ClassFile.FieldType.object "HeldCoats$Cond")))) dd [cz_r r] h oh') (HF1 : ∀ (r : Option Nat) (h : cz_H) (oh' : cz_O × cz_H), F 1 r h = some oh' → cz_M K.2.1 D yX21_and (ws_ yX21_and cX21_and 2 ((Option.some (Jvm.ClassFile.FieldType.object "HeldCoats$Cond")))) dd [cz_r r] h oh') (HF2 : ∀ (r : Option Nat) (h : cz_H) (oh' : cz_O × cz_H), F 2 r h = some oh' → cz_M K.2.1 D yX21_says (ws_ yX21_says cX21_says 9 ((Option.some (Jvm.ClassFile.FieldType.object "HeldCoats$Cond")))) dd [cz_r r] h oh') (HF3 : ∀ (r : Option Nat) (h : cz_H) (oh' : cz_O × cz_H), F 3 r h = some oh' → cz_M K.2.1 D yX21_bracket (ws_ yX21_bracket cX21_bracket 2 ((Option.some (Jvm.ClassFile.FieldType.object "HeldCoats$Cond")))) dd [cz_r r] h oh') (S : cz_S K D h0 cX21_bracket 2 "HeldCoats$SentenceReader" ((Option.some (Jvm.ClassFile.FieldType.object "HeldCoats$Cond"))) "bracket" ([])) : cz_T K D (dd + 1) h0 oh 2 (fn_X21_bracket_b F l0 h) h 0 [(0, cz_r l0)] [] := by
  unfold fn_X21_bracket_b
  refine ct_aload_n (k := 0) S dX21_bracket_0 rfl rfl ?_
  refine ct_rc (fun b1 ci2 V3 hb4 hc5 hi6 => ?_)
  refine ct_xR (st := []) (cg_virtual (av := []) S hb4 hc5 hi6 (fun _ e => HF0 _ _ _ e) md_X21_or q1659 q1661 se_HeldCoats_SentenceReader_or___LHeldCoats_Cond__HeldCoats_SentenceReader (by omega) (Nat.le_of_ble_eq_true rfl) rfl dX21_bracket_1) (fun q8 h9 => ?_) (fun r10 h7 => ?_)
  · exact ct_out S (fun x hx => by cases hx)
  · refine ct_astore_n (L' := [(1, cz_r r10), (0, cz_r l0)]) S dX21_bracket_4 rfl (by decide) rfl ?_
    refine ct_aload_n (k := 1) S dX21_bracket_5 rfl rfl ?_
    refine ct_aload_n (k := 1) S dX21_bracket_6 rfl rfl ?_
    refine ct_getI S fw_X21_23 dX21_bracket_7 (fun x11 => ?_)
    refine ct_bipush (v := 6) S dX21_bracket_10 kB_6 ?_
    refine ct_jnP (fun j29 => ∀ (h12 : cz_H), cz_T K D (dd + 1) h0 oh 2 (j29 h12) h12 28 [(0, cz_r l0), (1, cz_r r10)] [cz_r l0]) (fun h12 => ?_) (fun j29 Hj29 => ?_)
    · refine ct_iconst (v := 0) S dX21_bracket_28 kI_0 ?_
      refine ct_iconst (v := 1) S dX21_bracket_29 kI_1 ?_
      refine ct_rc (fun b13 ci14 V15 hb16 hc17 hi18 => ?_)
      refine ct_xV (st := []) (cg_up (owner := "HeldCoats$Reader") (av := [cz_i 0, cz_i 1]) S hb16 hc17 hi18 (fun _ e => mt_X6_need e) q750 q1687 q1688 (Or.inl q747) ⟨by decide, by decide⟩ q749 q124 nh_HeldCoats_SentenceReader_need__ZI_V se_HeldCoats_SentenceReader_need__ZI_V_HeldCoats_Reader (by decide) (by omega) (Nat.le_of_ble_eq_true rfl) rfl dX21_bracket_30) (fun q20 h21 => ?_) (fun h19 => ?_)
      · exact ct_out S (fun x hx => by cases hx)
      · refine ct_aload_n (k := 0) S dX21_bracket_33 rfl rfl ?_
        refine ct_rc (fun b22 ci23 V24 hb25 hc26 hi27 => ?_)
        refine ct_cV (st := []) (cg_up (owner := "HeldCoats$Reader") (av := []) S hb25 hc26 hi27 (fun _ e => mt_X6_go e) q521 q1656 q1657 (Or.inl q518) ⟨by decide, by decide⟩ q520 q124 nh_HeldCoats_SentenceReader_go___V se_HeldCoats_SentenceReader_go___V_HeldCoats_Reader (by decide) (by omega) (Nat.le_of_ble_eq_true rfl) rfl dX21_bracket_34) (fun h28 => ?_)
        refine ct_aload_n (k := 1) S dX21_bracket_37 rfl rfl ?_
        exact ct_aret S rfl (Or.inl ⟨_, rfl⟩) dX21_bracket_38
    · refine ct_icmp_ne (tgt := 28) S dX21_bracket_12 (by decide) ?_ ?_
      · exact ct_sub [1, 0] rfl (Hj29 h7)
      · refine ct_aload_n (k := 1) S dX21_bracket_15 rfl rfl ?_
        refine ct_getI S fw_X21_56 dX21_bracket_16 (fun x30 => ?_)
        refine ct_bipush (v := 41) S dX21_bracket_19 kB_41 ?_
        refine ct_icmp_ne (tgt := 28) S dX21_bracket_21 (by decide) ?_ ?_
        · exact ct_sub [1, 0] rfl (Hj29 h7)
        · refine ct_iconst (v := 1) S dX21_bracket_24 kI_1 ?_
          refine ct_goto (tgt := 29) S dX21_bracket_25 (by decide) ?_
          refine ct_iconst (v := 1) S dX21_bracket_29 kI_1 ?_
          refine ct_rc (fun b31 ci32 V33 hb34 hc35 hi36 => ?_)
          refine ct_xV (st := []) (cg_up (owner := "HeldCoats$Reader") (av := [cz_i 1, cz_i 1]) S hb34 hc35 hi36 (fun _ e => mt_X6_need e) q750 q1687 q1688 (Or.inl q747) ⟨by decide, by decide⟩ q749 q124 nh_HeldCoats_SentenceReader_need__ZI_V se_HeldCoats_SentenceReader_need__ZI_V_HeldCoats_Reader (by decide) (by omega) (Nat.le_of_ble_eq_true rfl) rfl dX21_bracket_30) (fun q38 h39 => ?_) (fun h37 => ?_)
          · exact ct_out S (fun x hx => by cases hx)
          · refine ct_aload_n (k := 1) S dX21_bracket_33 rfl rfl ?_
            refine ct_rc (fun b40 ci41 V42 hb43 hc44 hi45 => ?_)
            refine ct_cV (st := []) (cg_up (owner := "HeldCoats$Reader") (av := []) S hb43 hc44 hi45 (fun _ e => mt_X6_go e) q521 q1656 q1657 (Or.inl q518) ⟨by decide, by decide⟩ q520 q124 nh_HeldCoats_SentenceReader_go___V se_HeldCoats_SentenceReader_go___V_HeldCoats_Reader (by decide) (by omega) (Nat.le_of_ble_eq_true rfl) rfl dX21_bracket_34) (fun h46 => ?_)
            refine ct_aload_n (k := 0) S dX21_bracket_37 rfl rfl ?_
            exact ct_aret S rfl (Or.inl ⟨_, rfl⟩) dX21_bracket_38
