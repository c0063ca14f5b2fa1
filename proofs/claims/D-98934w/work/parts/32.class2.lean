/-! methods of the class, 2 (printed by wip/D-98934w/gen) -/
set_option maxRecDepth 100000
/-! java/lang/AbstractStringBuilder.<init>(I)V -/
def dkwJ6_init_1 : List UInt8 := [167, 0, 16, 42, 27, 184, 0, 26, 181, 0, 15, 42, 4, 181, 0, 22, 177]
abbrev dktJ6_init_1 : List UInt8 := dkwJ6_init_1 ++ []
def dkwJ6_init_0 : List UInt8 := [42, 183, 0, 3, 178, 0, 18, 153, 0, 18, 42, 27, 188, 8, 181, 0, 15, 42, 3, 181, 0, 22]
abbrev dktJ6_init_0 : List UInt8 := dkwJ6_init_0 ++ dktJ6_init_1
theorem dksJ6_init_0 : cJ6_init.data.toList.drop 0 = dktJ6_init_0 := by decide +kernel
theorem dksJ6_init_1 : cJ6_init.data.toList.drop 22 = dktJ6_init_1 := dk_seg dksJ6_init_0 22 rfl rfl
theorem dJ6_init_0 : decode cJ6_init 0 = .ok (.aload_n 0, 1) := dk_42 (dk_at dksJ6_init_0 0 rfl rfl)
theorem dJ6_init_1 : decode cJ6_init 1 = .ok (.invokespecial 3, 3) := dk_183 0 3 (dk_at dksJ6_init_0 1 rfl rfl)
theorem dJ6_init_4 : decode cJ6_init 4 = .ok (.getstatic 18, 3) := dk_178 0 18 (dk_at dksJ6_init_0 4 rfl rfl)
theorem dJ6_init_7 : decode cJ6_init 7 = .ok (.ifCond .eq 18, 3) := dk_153 0 18 (dk_at dksJ6_init_0 7 rfl rfl)
theorem dJ6_init_10 : decode cJ6_init 10 = .ok (.aload_n 0, 1) := dk_42 (dk_at dksJ6_init_0 10 rfl rfl)
theorem dJ6_init_11 : decode cJ6_init 11 = .ok (.iload_n 1, 1) := dk_27 (dk_at dksJ6_init_0 11 rfl rfl)
theorem dJ6_init_12 : decode cJ6_init 12 = .ok (.newarray .byte, 2) := dk_188_8 (dk_at dksJ6_init_0 12 rfl rfl)
theorem dJ6_init_14 : decode cJ6_init 14 = .ok (.putfield 15, 3) := dk_181 0 15 (dk_at dksJ6_init_0 14 rfl rfl)
theorem dJ6_init_17 : decode cJ6_init 17 = .ok (.aload_n 0, 1) := dk_42 (dk_at dksJ6_init_0 17 rfl rfl)
theorem dJ6_init_18 : decode cJ6_init 18 = .ok (.iconst 0, 1) := dk_3 (dk_at dksJ6_init_0 18 rfl rfl)
theorem dJ6_init_19 : decode cJ6_init 19 = .ok (.putfield 22, 3) := dk_181 0 22 (dk_at dksJ6_init_0 19 rfl rfl)
theorem dJ6_init_22 : decode cJ6_init 22 = .ok (.goto 16, 3) := dk_167 0 16 (dk_at dksJ6_init_1 0 rfl rfl)
theorem dJ6_init_25 : decode cJ6_init 25 = .ok (.aload_n 0, 1) := dk_42 (dk_at dksJ6_init_1 3 rfl rfl)
theorem dJ6_init_26 : decode cJ6_init 26 = .ok (.iload_n 1, 1) := dk_27 (dk_at dksJ6_init_1 4 rfl rfl)
theorem dJ6_init_27 : decode cJ6_init 27 = .ok (.invokestatic 26, 3) := dk_184 0 26 (dk_at dksJ6_init_1 5 rfl rfl)
theorem dJ6_init_30 : decode cJ6_init 30 = .ok (.putfield 15, 3) := dk_181 0 15 (dk_at dksJ6_init_1 8 rfl rfl)
theorem dJ6_init_33 : decode cJ6_init 33 = .ok (.aload_n 0, 1) := dk_42 (dk_at dksJ6_init_1 11 rfl rfl)
theorem dJ6_init_34 : decode cJ6_init 34 = .ok (.iconst 1, 1) := dk_4 (dk_at dksJ6_init_1 12 rfl rfl)
theorem dJ6_init_35 : decode cJ6_init 35 = .ok (.putfield 22, 3) := dk_181 0 22 (dk_at dksJ6_init_1 13 rfl rfl)
theorem dJ6_init_38 : decode cJ6_init 38 = .ok (.return_, 1) := dk_177 (dk_at dksJ6_init_1 16 rfl rfl)
theorem fp_J6_i_7_0 : cz_FP "java/lang/AbstractStringBuilder" "<init>" [(7, 0)] := List.forall_mem_cons.mpr ⟨⟨RJ7, TJ7, 4, rfl, Or.inl rfl⟩, fun _ h => absurd h List.not_mem_nil⟩
theorem fp_J6_i_7_1 : cz_FP "java/lang/AbstractStringBuilder" "<init>" [(7, 1)] := List.forall_mem_cons.mpr ⟨⟨RJ7, TJ7, 4, rfl, Or.inl rfl⟩, fun _ h => absurd h List.not_mem_nil⟩
theorem pd_B : parseFieldDescriptor "B" = some .byte := by decide +kernel
set_option maxHeartbeats 4000000 in
set_option maxRecDepth 100000 in
noncomputable def fn_J6_init (l0 : Option Nat) (l1 : Int32) (h : cz_H) : cz_Z := cz_nn' l0 ((if (1 : Int32) = 0 then none else cz_newi h 1 l1 (fun r1 h2 => cz_put h2 l0 [(7, 0)] (cz_r r1) (fun h3 => cz_put h3 l0 [(7, 1)] (cz_i 0) (fun h4 => some (.inl none, h4))))))
set_option maxHeartbeats 4000000 in
set_option maxRecDepth 100000 in
theorem wk_J6_init {K : cz_K} {D : cz_D} {h0 : cz_H} {oh : cz_O × cz_H} {l0 : Option Nat} {l1 : Int32} {h : cz_H} (S : cz_S K D h0 cJ6_init 2 "java/lang/AbstractStringBuilder" ((Option.none : Option Jvm.ClassFile.FieldType)) "<init>" ([])) : cz_T K D 3 h0 oh 2 (fn_J6_init l0 l1 h) h 0 [(0, cz_r l0), (1, cz_i l1)] [] := by
  unfold fn_J6_init
  refine ct_aload_n (k := 0) S dJ6_init_0 rfl rfl ?_
  refine ct_oinit S q540 q165 q166 (by decide) (Nat.le_of_ble_eq_true rfl) dJ6_init_1 ?_
  refine ct_gets (i := 0) S rfl q541 dJ6_init_4 ?_
  refine ct_if_eq (tgt := 25) S dJ6_init_7 (by decide) ?_ ?_
  · refine ct_aload_n (k := 0) S dJ6_init_25 rfl rfl ?_
    refine ct_iload_n (k := 1) S dJ6_init_26 rfl rfl ?_
    exact ct_none
  · refine ct_aload_n (k := 0) S dJ6_init_10 rfl rfl ?_
    refine ct_iload_n (k := 1) S dJ6_init_11 rfl rfl ?_
    refine ct_newi_byte S dJ6_init_12 (fun r1 h2 => ?_)
    refine ct_put S fw_J6_15 fp_J6_i_7_0 (cz_fits_a pd__B) dJ6_init_14 (fun h3 => ?_)
    refine ct_aload_n (k := 0) S dJ6_init_17 rfl rfl ?_
    refine ct_iconst (v := 0) S dJ6_init_18 kI_0 ?_
    refine ct_put S fw_J6_22 fp_J6_i_7_1 (cz_fits_b pd_B rfl) dJ6_init_19 (fun h4 => ?_)
    refine ct_goto (tgt := 38) S dJ6_init_22 (by decide) ?_
    exact ct_vret S rfl dJ6_init_38
theorem mt_J6_init {l : Launch} {D : cz_D} {l0 : Option Nat} {l1 : Int32} {h : cz_H} {oh : cz_O × cz_H} (hz : fn_J6_init l0 l1 h = some oh) : cz_M l D yJ6_init (ws_ yJ6_init cJ6_init 2 ((Option.none : Option Jvm.ClassFile.FieldType))) 3 [cz_r l0, cz_i l1] h oh := cz_met (plainFor_of_name (by decide)) (Nat.le_of_ble_eq_true rfl) hz (fun K hl S => wk_J6_init S)
/-! java/lang/StringBuilder.<init>()V -/
def dkwJ7_init_0 : List UInt8 := [42, 16, 16, 183, 0, 1, 177]
abbrev dktJ7_init_0 : List UInt8 := dkwJ7_init_0 ++ []
theorem dksJ7_init_0 : cJ7_init.data.toList.drop 0 = dktJ7_init_0 := by decide +kernel
theorem dJ7_init_0 : decode cJ7_init 0 = .ok (.aload_n 0, 1) := dk_42 (dk_at dksJ7_init_0 0 rfl rfl)
theorem dJ7_init_1 : decode cJ7_init 1 = .ok (.bipush 16, 2) := dk_16 16 (dk_at dksJ7_init_0 1 rfl rfl)
theorem dJ7_init_3 : decode cJ7_init 3 = .ok (.invokespecial 1, 3) := dk_183 0 1 (dk_at dksJ7_init_0 3 rfl rfl)
theorem dJ7_init_6 : decode cJ7_init 6 = .ok (.return_, 1) := dk_177 (dk_at dksJ7_init_0 6 rfl rfl)
theorem nh_java_lang_AbstractStringBuilder__init___I_V : cz_nh ⟨"java/lang/AbstractStringBuilder", "<init>", "(I)V"⟩ 1 := ⟨by decide, by decide, by decide +kernel⟩
set_option maxHeartbeats 4000000 in
set_option maxRecDepth 100000 in
noncomputable def fn_J7_init (l0 : Option Nat) (h : cz_H) : cz_Z := cz_nn' l0 (cz_cV (fn_J6_init l0 16 h) (fun h3 => some (.inl none, h3)))
set_option maxHeartbeats 4000000 in
set_option maxRecDepth 100000 in
theorem wk_J7_init {K : cz_K} {D : cz_D} {h0 : cz_H} {oh : cz_O × cz_H} {l0 : Option Nat} {h : cz_H} (S : cz_S K D h0 cJ7_init 1 "java/lang/StringBuilder" ((Option.none : Option Jvm.ClassFile.FieldType)) "<init>" ([])) : cz_T K D 4 h0 oh 1 (fn_J7_init l0 h) h 0 [(0, cz_r l0)] [] := by
  unfold fn_J7_init
  refine ct_aload_n (k := 0) S dJ7_init_0 rfl rfl ?_
  refine ct_bipush (v := 16) S dJ7_init_1 kB_16 ?_
  refine ct_nn (fun b1 hb2 => ?_)
  refine ct_cV (st := []) (cg_init (av := [cz_i 16]) S hb2 (fun _ e => mt_J6_init e) q539 (Or.inl q537) rfl q538 q126 nh_java_lang_AbstractStringBuilder__init___I_V (by decide) (by decide) (Nat.le_of_ble_eq_true rfl) rfl dJ7_init_3) (fun h3 => ?_)
  exact ct_vret S rfl dJ7_init_6
theorem mt_J7_init {l : Launch} {D : cz_D} {l0 : Option Nat} {h : cz_H} {oh : cz_O × cz_H} (hz : fn_J7_init l0 h = some oh) : cz_M l D yJ7_init (ws_ yJ7_init cJ7_init 1 ((Option.none : Option Jvm.ClassFile.FieldType))) 4 [cz_r l0] h oh := cz_met (plainFor_of_name (by decide)) (Nat.le_of_ble_eq_true rfl) hz (fun K hl S => wk_J7_init S)
/-! java/util/Arrays.checkLength(II)V -/
def dkwJ3_checkLength_1 : List UInt8 := [182, 0, 50, 27, 182, 0, 54, 182, 0, 61, 183, 0, 65, 191, 177]
abbrev dktJ3_checkLength_1 : List UInt8 := dkwJ3_checkLength_1 ++ []
def dkwJ3_checkLength_0 : List UInt8 := [27, 26, 162, 0, 35, 187, 0, 43, 89, 187, 0, 45, 89, 183, 0, 47, 26, 182, 0, 54, 19, 1, 81]
abbrev dktJ3_checkLength_0 : List UInt8 := dkwJ3_checkLength_0 ++ dktJ3_checkLength_1
theorem dksJ3_checkLength_0 : cJ3_checkLength.data.toList.drop 0 = dktJ3_checkLength_0 := by decide +kernel
theorem dksJ3_checkLength_1 : cJ3_checkLength.data.toList.drop 23 = dktJ3_checkLength_1 := dk_seg dksJ3_checkLength_0 23 rfl rfl
theorem dJ3_checkLength_0 : decode cJ3_checkLength 0 = .ok (.iload_n 1, 1) := dk_27 (dk_at dksJ3_checkLength_0 0 rfl rfl)
theorem dJ3_checkLength_1 : decode cJ3_checkLength 1 = .ok (.iload_n 0, 1) := dk_26 (dk_at dksJ3_checkLength_0 1 rfl rfl)
theorem dJ3_checkLength_2 : decode cJ3_checkLength 2 = .ok (.if_icmp .ge 35, 3) := dk_162 0 35 (dk_at dksJ3_checkLength_0 2 rfl rfl)
theorem dJ3_checkLength_5 : decode cJ3_checkLength 5 = .ok (.new 43, 3) := dk_187 0 43 (dk_at dksJ3_checkLength_0 5 rfl rfl)
theorem dJ3_checkLength_8 : decode cJ3_checkLength 8 = .ok (.dup, 1) := dk_89 (dk_at dksJ3_checkLength_0 8 rfl rfl)
theorem dJ3_checkLength_9 : decode cJ3_checkLength 9 = .ok (.new 45, 3) := dk_187 0 45 (dk_at dksJ3_checkLength_0 9 rfl rfl)
theorem dJ3_checkLength_12 : decode cJ3_checkLength 12 = .ok (.dup, 1) := dk_89 (dk_at dksJ3_checkLength_0 12 rfl rfl)
theorem dJ3_checkLength_13 : decode cJ3_checkLength 13 = .ok (.invokespecial 47, 3) := dk_183 0 47 (dk_at dksJ3_checkLength_0 13 rfl rfl)
theorem dJ3_checkLength_16 : decode cJ3_checkLength 16 = .ok (.iload_n 0, 1) := dk_26 (dk_at dksJ3_checkLength_0 16 rfl rfl)
theorem dJ3_checkLength_17 : decode cJ3_checkLength 17 = .ok (.invokevirtual 54, 3) := dk_182 0 54 (dk_at dksJ3_checkLength_0 17 rfl rfl)
theorem dJ3_checkLength_20 : decode cJ3_checkLength 20 = .ok (.ldc_w 337, 3) := dk_19 1 81 (dk_at dksJ3_checkLength_0 20 rfl rfl)
theorem dJ3_checkLength_23 : decode cJ3_checkLength 23 = .ok (.invokevirtual 50, 3) := dk_182 0 50 (dk_at dksJ3_checkLength_1 0 rfl rfl)
theorem dJ3_checkLength_26 : decode cJ3_checkLength 26 = .ok (.iload_n 1, 1) := dk_27 (dk_at dksJ3_checkLength_1 3 rfl rfl)
theorem dJ3_checkLength_27 : decode cJ3_checkLength 27 = .ok (.invokevirtual 54, 3) := dk_182 0 54 (dk_at dksJ3_checkLength_1 4 rfl rfl)
theorem dJ3_checkLength_30 : decode cJ3_checkLength 30 = .ok (.invokevirtual 61, 3) := dk_182 0 61 (dk_at dksJ3_checkLength_1 7 rfl rfl)
theorem dJ3_checkLength_33 : decode cJ3_checkLength 33 = .ok (.invokespecial 65, 3) := dk_183 0 65 (dk_at dksJ3_checkLength_1 10 rfl rfl)
theorem dJ3_checkLength_36 : decode cJ3_checkLength 36 = .ok (.athrow, 1) := dk_191 (dk_at dksJ3_checkLength_1 13 rfl rfl)
theorem dJ3_checkLength_37 : decode cJ3_checkLength 37 = .ok (.return_, 1) := dk_177 (dk_at dksJ3_checkLength_1 14 rfl rfl)
set_option maxHeartbeats 4000000 in
set_option maxRecDepth 100000 in
noncomputable def fn_J3_checkLength (l0 : Int32) (l1 : Int32) (h : cz_H) : cz_Z := (if l0 ≤ l1 then some (.inl none, h) else none)
set_option maxHeartbeats 4000000 in
set_option maxRecDepth 100000 in
theorem wk_J3_checkLength {K : cz_K} {D : cz_D} {h0 : cz_H} {oh : cz_O × cz_H} {l0 : Int32} {l1 : Int32} {h : cz_H} (S : cz_S K D h0 cJ3_checkLength 2 "java/util/Arrays" ((Option.none : Option Jvm.ClassFile.FieldType)) "checkLength" ([])) : cz_T K D 2 h0 oh 2 (fn_J3_checkLength l0 l1 h) h 0 [(0, cz_i l0), (1, cz_i l1)] [] := by
  unfold fn_J3_checkLength
  refine ct_iload_n (k := 1) S dJ3_checkLength_0 rfl rfl ?_
  refine ct_iload_n (k := 0) S dJ3_checkLength_1 rfl rfl ?_
  refine ct_icmp_ge (tgt := 37) S dJ3_checkLength_2 (by decide) ?_ ?_
  · exact ct_vret S rfl dJ3_checkLength_37
  · exact ct_none
theorem mt_J3_checkLength {l : Launch} {D : cz_D} {l0 : Int32} {l1 : Int32} {h : cz_H} {oh : cz_O × cz_H} (hz : fn_J3_checkLength l0 l1 h = some oh) : cz_M l D yJ3_checkLength (ws_ yJ3_checkLength cJ3_checkLength 2 ((Option.none : Option Jvm.ClassFile.FieldType))) 2 [cz_i l0, cz_i l1] h oh := cz_met (plainFor_of_name (by decide)) (Nat.le_of_ble_eq_true rfl) hz (fun K hl S => wk_J3_checkLength S)
/-! java/util/Arrays.copyOfRangeByte([BII)[B -/
def dkwJ3_copyOfRangeByte_1 : List UInt8 := [184, 1, 48, 184, 0, 150, 25, 4, 176]
abbrev dktJ3_copyOfRangeByte_1 : List UInt8 := dkwJ3_copyOfRangeByte_1 ++ []
def dkwJ3_copyOfRangeByte_0 : List UInt8 := [27, 28, 184, 1, 87, 28, 27, 100, 62, 29, 188, 8, 58, 4, 42, 27, 25, 4, 3, 42, 190, 27, 100, 29]
abbrev dktJ3_copyOfRangeByte_0 : List UInt8 := dkwJ3_copyOfRangeByte_0 ++ dktJ3_copyOfRangeByte_1
theorem dksJ3_copyOfRangeByte_0 : cJ3_copyOfRangeByte.data.toList.drop 0 = dktJ3_copyOfRangeByte_0 := by decide +kernel
theorem dksJ3_copyOfRangeByte_1 : cJ3_copyOfRangeByte.data.toList.drop 24 = dktJ3_copyOfRangeByte_1 := dk_seg dksJ3_copyOfRangeByte_0 24 rfl rfl
theorem dJ3_copyOfRangeByte_0 : decode cJ3_copyOfRangeByte 0 = .ok (.iload_n 1, 1) := dk_27 (dk_at dksJ3_copyOfRangeByte_0 0 rfl rfl)
theorem dJ3_copyOfRangeByte_1 : decode cJ3_copyOfRangeByte 1 = .ok (.iload_n 2, 1) := dk_28 (dk_at dksJ3_copyOfRangeByte_0 1 rfl rfl)
theorem dJ3_copyOfRangeByte_2 : decode cJ3_copyOfRangeByte 2 = .ok (.invokestatic 343, 3) := dk_184 1 87 (dk_at dksJ3_copyOfRangeByte_0 2 rfl rfl)
theorem dJ3_copyOfRangeByte_5 : decode cJ3_copyOfRangeByte 5 = .ok (.iload_n 2, 1) := dk_28 (dk_at dksJ3_copyOfRangeByte_0 5 rfl rfl)
theorem dJ3_copyOfRangeByte_6 : decode cJ3_copyOfRangeByte 6 = .ok (.iload_n 1, 1) := dk_27 (dk_at dksJ3_copyOfRangeByte_0 6 rfl rfl)
theorem dJ3_copyOfRangeByte_7 : decode cJ3_copyOfRangeByte 7 = .ok (.isub, 1) := dk_100 (dk_at dksJ3_copyOfRangeByte_0 7 rfl rfl)
theorem dJ3_copyOfRangeByte_8 : decode cJ3_copyOfRangeByte 8 = .ok (.istore_n 3, 1) := dk_62 (dk_at dksJ3_copyOfRangeByte_0 8 rfl rfl)
theorem dJ3_copyOfRangeByte_9 : decode cJ3_copyOfRangeByte 9 = .ok (.iload_n 3, 1) := dk_29 (dk_at dksJ3_copyOfRangeByte_0 9 rfl rfl)
theorem dJ3_copyOfRangeByte_10 : decode cJ3_copyOfRangeByte 10 = .ok (.newarray .byte, 2) := dk_188_8 (dk_at dksJ3_copyOfRangeByte_0 10 rfl rfl)
theorem dJ3_copyOfRangeByte_12 : decode cJ3_copyOfRangeByte 12 = .ok (.astore 4, 2) := dk_58 4 (dk_at dksJ3_copyOfRangeByte_0 12 rfl rfl)
theorem dJ3_copyOfRangeByte_14 : decode cJ3_copyOfRangeByte 14 = .ok (.aload_n 0, 1) := dk_42 (dk_at dksJ3_copyOfRangeByte_0 14 rfl rfl)
theorem dJ3_copyOfRangeByte_15 : decode cJ3_copyOfRangeByte 15 = .ok (.iload_n 1, 1) := dk_27 (dk_at dksJ3_copyOfRangeByte_0 15 rfl rfl)
theorem dJ3_copyOfRangeByte_16 : decode cJ3_copyOfRangeByte 16 = .ok (.aload 4, 2) := dk_25 4 (dk_at dksJ3_copyOfRangeByte_0 16 rfl rfl)
theorem dJ3_copyOfRangeByte_18 : decode cJ3_copyOfRangeByte 18 = .ok (.iconst 0, 1) := dk_3 (dk_at dksJ3_copyOfRangeByte_0 18 rfl rfl)
theorem dJ3_copyOfRangeByte_19 : decode cJ3_copyOfRangeByte 19 = .ok (.aload_n 0, 1) := dk_42 (dk_at dksJ3_copyOfRangeByte_0 19 rfl rfl)
theorem dJ3_copyOfRangeByte_20 : decode cJ3_copyOfRangeByte 20 = .ok (.arraylength, 1) := dk_190 (dk_at dksJ3_copyOfRangeByte_0 20 rfl rfl)
theorem dJ3_copyOfRangeByte_21 : decode cJ3_copyOfRangeByte 21 = .ok (.iload_n 1, 1) := dk_27 (dk_at dksJ3_copyOfRangeByte_0 21 rfl rfl)
theorem dJ3_copyOfRangeByte_22 : decode cJ3_copyOfRangeByte 22 = .ok (.isub, 1) := dk_100 (dk_at dksJ3_copyOfRangeByte_0 22 rfl rfl)
theorem dJ3_copyOfRangeByte_23 : decode cJ3_copyOfRangeByte 23 = .ok (.iload_n 3, 1) := dk_29 (dk_at dksJ3_copyOfRangeByte_0 23 rfl rfl)
theorem dJ3_copyOfRangeByte_24 : decode cJ3_copyOfRangeByte 24 = .ok (.invokestatic 304, 3) := dk_184 1 48 (dk_at dksJ3_copyOfRangeByte_1 0 rfl rfl)
theorem dJ3_copyOfRangeByte_27 : decode cJ3_copyOfRangeByte 27 = .ok (.invokestatic 150, 3) := dk_184 0 150 (dk_at dksJ3_copyOfRangeByte_1 3 rfl rfl)
theorem dJ3_copyOfRangeByte_30 : decode cJ3_copyOfRangeByte 30 = .ok (.aload 4, 2) := dk_25 4 (dk_at dksJ3_copyOfRangeByte_1 6 rfl rfl)
theorem dJ3_copyOfRangeByte_32 : decode cJ3_copyOfRangeByte 32 = .ok (.areturn, 1) := dk_176 (dk_at dksJ3_copyOfRangeByte_1 8 rfl rfl)
theorem md_J3_checkLength : cz_md yJ3_checkLength 2 (ws_ yJ3_checkLength cJ3_checkLength 2 ((Option.none : Option Jvm.ClassFile.FieldType))) 2 := ⟨cz_ws_code q691, q119, ⟨by decide, by decide, by decide +kernel⟩, by decide⟩
set_option maxHeartbeats 4000000 in
set_option maxRecDepth 100000 in
noncomputable def fn_J3_copyOfRangeByte (l0 : Option Nat) (l1 : Int32) (l2 : Int32) (h : cz_H) : cz_Z := cz_cV (fn_J3_checkLength l1 l2 h) (fun h1 => cz_leti (l2 - l1) (fun x2 => cz_newi h1 1 x2 (fun r3 h4 => cz_alen h4 l0 (fun x5 => cz_cI (fn_J11_min (x5 - l1) x2 h4) (fun x7 h6 => cz_acp h6 l0 l1 r3 0 x7 (fun h8 => some (.inl (some (cz_r r3)), h8)))))))
set_option maxHeartbeats 4000000 in
set_option maxRecDepth 100000 in
theorem wk_J3_copyOfRangeByte {K : cz_K} {D : cz_D} {h0 : cz_H} {oh : cz_O × cz_H} {l0 : Option Nat} {l1 : Int32} {l2 : Int32} {h : cz_H} (S : cz_S K D h0 cJ3_copyOfRangeByte 5 "java/util/Arrays" ((Option.some (Jvm.ClassFile.FieldType.array Jvm.ClassFile.FieldType.byte))) "copyOfRangeByte" ([])) : cz_T K D 3 h0 oh 5 (fn_J3_copyOfRangeByte l0 l1 l2 h) h 0 [(0, cz_r l0), (1, cz_i l1), (2, cz_i l2)] [] := by
  unfold fn_J3_copyOfRangeByte
  refine ct_iload_n (k := 1) S dJ3_copyOfRangeByte_0 rfl rfl ?_
  refine ct_iload_n (k := 2) S dJ3_copyOfRangeByte_1 rfl rfl ?_
  refine ct_cV (st := []) (cg_static (av := [cz_i l1, cz_i l2]) S (fun _ e => mt_J3_checkLength e) md_J3_checkLength (Or.inl q689) q690 (by decide) (Nat.le_of_ble_eq_true rfl) rfl dJ3_copyOfRangeByte_2) (fun h1 => ?_)
  refine ct_iload_n (k := 2) S dJ3_copyOfRangeByte_5 rfl rfl ?_
  refine ct_iload_n (k := 1) S dJ3_copyOfRangeByte_6 rfl rfl ?_
  refine ct_isub S dJ3_copyOfRangeByte_7 ?_
  refine ct_leti (fun x2 => ?_)
  refine ct_istore_n (L' := [(3, cz_i x2), (0, cz_r l0), (1, cz_i l1), (2, cz_i l2)]) S dJ3_copyOfRangeByte_8 rfl (by decide) rfl ?_
  refine ct_iload_n (k := 0) S dJ3_copyOfRangeByte_9 rfl rfl ?_
  refine ct_newi_byte S dJ3_copyOfRangeByte_10 (fun r3 h4 => ?_)
  refine ct_astore (L' := [(4, cz_r r3), (3, cz_i x2), (0, cz_r l0), (1, cz_i l1), (2, cz_i l2)]) S dJ3_copyOfRangeByte_12 (by decide) rfl ?_
  refine ct_aload_n (k := 2) S dJ3_copyOfRangeByte_14 rfl rfl ?_
  refine ct_iload_n (k := 3) S dJ3_copyOfRangeByte_15 rfl rfl ?_
  refine ct_aload (k := 0) S dJ3_copyOfRangeByte_16 rfl ?_
  refine ct_iconst (v := 0) S dJ3_copyOfRangeByte_18 kI_0 ?_
  refine ct_aload_n (k := 2) S dJ3_copyOfRangeByte_19 rfl rfl ?_
  refine ct_alen S dJ3_copyOfRangeByte_20 (fun x5 => ?_)
  refine ct_iload_n (k := 3) S dJ3_copyOfRangeByte_21 rfl rfl ?_
  refine ct_isub S dJ3_copyOfRangeByte_22 ?_
  refine ct_iload_n (k := 1) S dJ3_copyOfRangeByte_23 rfl rfl ?_
  refine ct_cI (st := [cz_i 0, cz_r r3, cz_i l1, cz_r l0]) (cg_static (av := [cz_i (x5 - l1), cz_i x2]) S (fun _ e => mt_J11_min e) md_J11_min (Or.inl q599) q600 (by decide) (Nat.le_of_ble_eq_true rfl) rfl dJ3_copyOfRangeByte_24) (fun x7 h6 => ?_)
  refine ct_acp S q602 q604 q603 q132 (by decide) (Nat.le_of_ble_eq_true rfl) dJ3_copyOfRangeByte_27 (fun h8 => ?_)
  refine ct_aload (k := 0) S dJ3_copyOfRangeByte_30 rfl ?_
  exact ct_aret S rfl (Or.inr ⟨_, rfl⟩) dJ3_copyOfRangeByte_32
theorem mt_J3_copyOfRangeByte {l : Launch} {D : cz_D} {l0 : Option Nat} {l1 : Int32} {l2 : Int32} {h : cz_H} {oh : cz_O × cz_H} (hz : fn_J3_copyOfRangeByte l0 l1 l2 h = some oh) : cz_M l D yJ3_copyOfRangeByte (ws_ yJ3_copyOfRangeByte cJ3_copyOfRangeByte 5 ((Option.some (Jvm.ClassFile.FieldType.array Jvm.ClassFile.FieldType.byte)))) 3 [cz_r l0, cz_i l1, cz_i l2] h oh := cz_met (plainFor_of_name (by decide)) (Nat.le_of_ble_eq_true rfl) hz (fun K hl S => wk_J3_copyOfRangeByte S)
/-! java/util/Arrays.copyOfRange([BII)[B -/
def dkwJ3_copyOfRange_1 : List UInt8 := [176]
abbrev dktJ3_copyOfRange_1 : List UInt8 := dkwJ3_copyOfRange_1 ++ []
def dkwJ3_copyOfRange_0 : List UInt8 := [27, 154, 0, 9, 28, 42, 190, 159, 0, 10, 42, 27, 28, 184, 1, 83, 176, 42, 182, 1, 54, 192, 1, 55]
abbrev dktJ3_copyOfRange_0 : List UInt8 := dkwJ3_copyOfRange_0 ++ dktJ3_copyOfRange_1
theorem dksJ3_copyOfRange_0 : cJ3_copyOfRange.data.toList.drop 0 = dktJ3_copyOfRange_0 := by decide +kernel
theorem dksJ3_copyOfRange_1 : cJ3_copyOfRange.data.toList.drop 24 = dktJ3_copyOfRange_1 := dk_seg dksJ3_copyOfRange_0 24 rfl rfl
theorem dJ3_copyOfRange_0 : decode cJ3_copyOfRange 0 = .ok (.iload_n 1, 1) := dk_27 (dk_at dksJ3_copyOfRange_0 0 rfl rfl)
theorem dJ3_copyOfRange_1 : decode cJ3_copyOfRange 1 = .ok (.ifCond .ne 9, 3) := dk_154 0 9 (dk_at dksJ3_copyOfRange_0 1 rfl rfl)
theorem dJ3_copyOfRange_4 : decode cJ3_copyOfRange 4 = .ok (.iload_n 2, 1) := dk_28 (dk_at dksJ3_copyOfRange_0 4 rfl rfl)
theorem dJ3_copyOfRange_5 : decode cJ3_copyOfRange 5 = .ok (.aload_n 0, 1) := dk_42 (dk_at dksJ3_copyOfRange_0 5 rfl rfl)
theorem dJ3_copyOfRange_6 : decode cJ3_copyOfRange 6 = .ok (.arraylength, 1) := dk_190 (dk_at dksJ3_copyOfRange_0 6 rfl rfl)
theorem dJ3_copyOfRange_7 : decode cJ3_copyOfRange 7 = .ok (.if_icmp .eq 10, 3) := dk_159 0 10 (dk_at dksJ3_copyOfRange_0 7 rfl rfl)
theorem dJ3_copyOfRange_10 : decode cJ3_copyOfRange 10 = .ok (.aload_n 0, 1) := dk_42 (dk_at dksJ3_copyOfRange_0 10 rfl rfl)
theorem dJ3_copyOfRange_11 : decode cJ3_copyOfRange 11 = .ok (.iload_n 1, 1) := dk_27 (dk_at dksJ3_copyOfRange_0 11 rfl rfl)
theorem dJ3_copyOfRange_12 : decode cJ3_copyOfRange 12 = .ok (.iload_n 2, 1) := dk_28 (dk_at dksJ3_copyOfRange_0 12 rfl rfl)
theorem dJ3_copyOfRange_13 : decode cJ3_copyOfRange 13 = .ok (.invokestatic 339, 3) := dk_184 1 83 (dk_at dksJ3_copyOfRange_0 13 rfl rfl)
theorem dJ3_copyOfRange_16 : decode cJ3_copyOfRange 16 = .ok (.areturn, 1) := dk_176 (dk_at dksJ3_copyOfRange_0 16 rfl rfl)
theorem dJ3_copyOfRange_17 : decode cJ3_copyOfRange 17 = .ok (.aload_n 0, 1) := dk_42 (dk_at dksJ3_copyOfRange_0 17 rfl rfl)
theorem dJ3_copyOfRange_18 : decode cJ3_copyOfRange 18 = .ok (.invokevirtual 310, 3) := dk_182 1 54 (dk_at dksJ3_copyOfRange_0 18 rfl rfl)
theorem dJ3_copyOfRange_21 : decode cJ3_copyOfRange 21 = .ok (.checkcast 311, 3) := dk_192 1 55 (dk_at dksJ3_copyOfRange_0 21 rfl rfl)
theorem dJ3_copyOfRange_24 : decode cJ3_copyOfRange 24 = .ok (.areturn, 1) := dk_176 (dk_at dksJ3_copyOfRange_1 0 rfl rfl)
theorem md_J3_copyOfRangeByte : cz_md yJ3_copyOfRangeByte 5 (ws_ yJ3_copyOfRangeByte cJ3_copyOfRangeByte 5 ((Option.some (Jvm.ClassFile.FieldType.array Jvm.ClassFile.FieldType.byte)))) 3 := ⟨cz_ws_code q688, q119, ⟨by decide, by decide, by decide +kernel⟩, by decide⟩
set_option maxHeartbeats 4000000 in
set_option maxRecDepth 100000 in
noncomputable def fn_J3_copyOfRange (l0 : Option Nat) (l1 : Int32) (l2 : Int32) (h : cz_H) : cz_Z := (if l1 = 0 then cz_alen h l0 (fun x3 => (if l2 = x3 then none else cz_cR (fn_J3_copyOfRangeByte l0 l1 l2 h) (fun r5 h4 => some (.inl (some (cz_r r5)), h4)))) else cz_cR (fn_J3_copyOfRangeByte l0 l1 l2 h) (fun r2 h1 => some (.inl (some (cz_r r2)), h1)))
set_option maxHeartbeats 4000000 in
set_option maxRecDepth 100000 in
theorem wk_J3_copyOfRange {K : cz_K} {D : cz_D} {h0 : cz_H} {oh : cz_O × cz_H} {l0 : Option Nat} {l1 : Int32} {l2 : Int32} {h : cz_H} (S : cz_S K D h0 cJ3_copyOfRange 3 "java/util/Arrays" ((Option.some (Jvm.ClassFile.FieldType.array Jvm.ClassFile.FieldType.byte))) "copyOfRange" ([])) : cz_T K D 4 h0 oh 3 (fn_J3_copyOfRange l0 l1 l2 h) h 0 [(0, cz_r l0), (1, cz_i l1), (2, cz_i l2)] [] := by
  unfold fn_J3_copyOfRange
  refine ct_iload_n (k := 1) S dJ3_copyOfRange_0 rfl rfl ?_
  refine ct_if_ne (tgt := 10) S dJ3_copyOfRange_1 (by decide) ?_ ?_
  · refine ct_aload_n (k := 0) S dJ3_copyOfRange_10 rfl rfl ?_
    refine ct_iload_n (k := 1) S dJ3_copyOfRange_11 rfl rfl ?_
    refine ct_iload_n (k := 2) S dJ3_copyOfRange_12 rfl rfl ?_
    refine ct_cR (st := []) (cg_static (av := [cz_r l0, cz_i l1, cz_i l2]) S (fun _ e => mt_J3_copyOfRangeByte e) md_J3_copyOfRangeByte (Or.inl q686) q687 (by decide) (Nat.le_of_ble_eq_true rfl) rfl dJ3_copyOfRange_13) (fun r2 h1 => ?_)
    exact ct_aret S rfl (Or.inr ⟨_, rfl⟩) dJ3_copyOfRange_16
  · refine ct_iload_n (k := 2) S dJ3_copyOfRange_4 rfl rfl ?_
    refine ct_aload_n (k := 0) S dJ3_copyOfRange_5 rfl rfl ?_
    refine ct_alen S dJ3_copyOfRange_6 (fun x3 => ?_)
    refine ct_icmp_eq (tgt := 17) S dJ3_copyOfRange_7 (by decide) ?_ ?_
    · refine ct_aload_n (k := 0) S dJ3_copyOfRange_17 rfl rfl ?_
      exact ct_none
    · refine ct_aload_n (k := 0) S dJ3_copyOfRange_10 rfl rfl ?_
      refine ct_iload_n (k := 1) S dJ3_copyOfRange_11 rfl rfl ?_
      refine ct_iload_n (k := 2) S dJ3_copyOfRange_12 rfl rfl ?_
      refine ct_cR (st := []) (cg_static (av := [cz_r l0, cz_i l1, cz_i l2]) S (fun _ e => mt_J3_copyOfRangeByte e) md_J3_copyOfRangeByte (Or.inl q686) q687 (by decide) (Nat.le_of_ble_eq_true rfl) rfl dJ3_copyOfRange_13) (fun r5 h4 => ?_)
      exact ct_aret S rfl (Or.inr ⟨_, rfl⟩) dJ3_copyOfRange_16
theorem mt_J3_copyOfRange {l : Launch} {D : cz_D} {l0 : Option Nat} {l1 : Int32} {l2 : Int32} {h : cz_H} {oh : cz_O × cz_H} (hz : fn_J3_copyOfRange l0 l1 l2 h = some oh) : cz_M l D yJ3_copyOfRange (ws_ yJ3_copyOfRange cJ3_copyOfRange 3 ((Option.some (Jvm.ClassFile.FieldType.array Jvm.ClassFile.FieldType.byte)))) 4 [cz_r l0, cz_i l1, cz_i l2] h oh := cz_met (plainFor_of_name (by decide)) (Nat.le_of_ble_eq_true rfl) hz (fun K hl S => wk_J3_copyOfRange S)
/-! java/lang/AbstractStringBuilder.getValue()[B -/
theorem dJ6_getValue_0 : decode cJ6_getValue 0 = .ok (.aload_n 0, 1) := by decide +kernel
theorem dJ6_getValue_1 : decode cJ6_getValue 1 = .ok (.getfield 15, 3) := by decide +kernel
theorem dJ6_getValue_4 : decode cJ6_getValue 4 = .ok (.areturn, 1) := by decide +kernel
set_option maxHeartbeats 4000000 in
set_option maxRecDepth 100000 in
noncomputable def fn_J6_getValue (l0 : Option Nat) (h : cz_H) : cz_Z := cz_getR h l0 [(7, 0)] (fun r1 => some (.inl (some (cz_r r1)), h))
set_option maxHeartbeats 4000000 in
set_option maxRecDepth 100000 in
theorem wk_J6_getValue {K : cz_K} {D : cz_D} {h0 : cz_H} {oh : cz_O × cz_H} {l0 : Option Nat} {h : cz_H} (S : cz_S K D h0 cJ6_getValue 1 "java/lang/AbstractStringBuilder" ((Option.some (Jvm.ClassFile.FieldType.array Jvm.ClassFile.FieldType.byte))) "getValue" ([])) : cz_T K D 2 h0 oh 1 (fn_J6_getValue l0 h) h 0 [(0, cz_r l0)] [] := by
  unfold fn_J6_getValue
  refine ct_aload_n (k := 0) S dJ6_getValue_0 rfl rfl ?_
  refine ct_getR S fw_J6_15 dJ6_getValue_1 (fun r1 => ?_)
  exact ct_aret S rfl (Or.inr ⟨_, rfl⟩) dJ6_getValue_4
theorem mt_J6_getValue {l : Launch} {D : cz_D} {l0 : Option Nat} {h : cz_H} {oh : cz_O × cz_H} (hz : fn_J6_getValue l0 h = some oh) : cz_M l D yJ6_getValue (ws_ yJ6_getValue cJ6_getValue 1 ((Option.some (Jvm.ClassFile.FieldType.array Jvm.ClassFile.FieldType.byte)))) 2 [cz_r l0] h oh := cz_met (plainFor_of_name (by decide)) (Nat.le_of_ble_eq_true rfl) hz (fun K hl S => wk_J6_getValue S)
/-! java/lang/AbstractStringBuilder.length()I -/
theorem dJ6_length_0 : decode cJ6_length 0 = .ok (.aload_n 0, 1) := by decide +kernel
theorem dJ6_length_1 : decode cJ6_length 1 = .ok (.getfield 79, 3) := by decide +kernel
theorem dJ6_length_4 : decode cJ6_length 4 = .ok (.ireturn, 1) := by decide +kernel
set_option maxHeartbeats 4000000 in
set_option maxRecDepth 100000 in
noncomputable def fn_J6_length (l0 : Option Nat) (h : cz_H) : cz_Z := cz_getI h l0 [(7, 3)] (fun x1 => some (.inl (some (cz_i x1)), h))
set_option maxHeartbeats 4000000 in
set_option maxRecDepth 100000 in
theorem wk_J6_length {K : cz_K} {D : cz_D} {h0 : cz_H} {oh : cz_O × cz_H} {l0 : Option Nat} {h : cz_H} (S : cz_S K D h0 cJ6_length 1 "java/lang/AbstractStringBuilder" ((Option.some Jvm.ClassFile.FieldType.int)) "length" ([])) : cz_T K D 2 h0 oh 1 (fn_J6_length l0 h) h 0 [(0, cz_r l0)] [] := by
  unfold fn_J6_length
  refine ct_aload_n (k := 0) S dJ6_length_0 rfl rfl ?_
  refine ct_getI S fw_J6_79 dJ6_length_1 (fun x1 => ?_)
  exact ct_iret S rfl dJ6_length_4
theorem mt_J6_length {l : Launch} {D : cz_D} {l0 : Option Nat} {h : cz_H} {oh : cz_O × cz_H} (hz : fn_J6_length l0 h = some oh) : cz_M l D yJ6_length (ws_ yJ6_length cJ6_length 1 ((Option.some Jvm.ClassFile.FieldType.int))) 2 [cz_r l0] h oh := cz_met (plainFor_of_name (by decide)) (Nat.le_of_ble_eq_true rfl) hz (fun K hl S => wk_J6_length S)
/-! java/lang/StringBuilder.length()I -/
theorem dJ7_length_0 : decode cJ7_length 0 = .ok (.aload_n 0, 1) := by decide +kernel
theorem dJ7_length_1 : decode cJ7_length 1 = .ok (.invokespecial 343, 3) := by decide +kernel
theorem dJ7_length_4 : decode cJ7_length 4 = .ok (.ireturn, 1) := by decide +kernel
theorem nh_java_lang_AbstractStringBuilder_length___I : cz_nh ⟨"java/lang/AbstractStringBuilder", "length", "()I"⟩ 0 := ⟨by decide, by decide, by decide +kernel⟩
set_option maxHeartbeats 4000000 in
set_option maxRecDepth 100000 in
noncomputable def fn_J7_length (l0 : Option Nat) (h : cz_H) : cz_Z := cz_rc h l0 [7] (cz_cI (fn_J6_length l0 h) (fun x8 h7 => some (.inl (some (cz_i x8)), h7)))
set_option maxHeartbeats 4000000 in
set_option maxRecDepth 100000 in
theorem wk_J7_length {K : cz_K} {D : cz_D} {h0 : cz_H} {oh : cz_O × cz_H} {l0 : Option Nat} {h : cz_H} (S : cz_S K D h0 cJ7_length 1 "java/lang/StringBuilder" ((Option.some Jvm.ClassFile.FieldType.int)) "length" ([])) : cz_T K D 3 h0 oh 1 (fn_J7_length l0 h) h 0 [(0, cz_r l0)] [] := by
  unfold fn_J7_length
  refine ct_aload_n (k := 0) S dJ7_length_0 rfl rfl ?_
  refine ct_rc (fun b1 ci2 V3 hb4 hc5 hi6 => ?_)
  refine ct_cI (st := []) (cg_super (av := []) S hb4 hc5 (fun _ e => mt_J6_length e) q681 q680 q676 q562 (by decide) q675 q126 nh_java_lang_AbstractStringBuilder_length___I (by decide) (by decide) (Nat.le_of_ble_eq_true rfl) rfl dJ7_length_1) (fun x8 h7 => ?_)
  exact ct_iret S rfl dJ7_length_4
theorem mt_J7_length {l : Launch} {D : cz_D} {l0 : Option Nat} {h : cz_H} {oh : cz_O × cz_H} (hz : fn_J7_length l0 h = some oh) : cz_M l D yJ7_length (ws_ yJ7_length cJ7_length 1 ((Option.some Jvm.ClassFile.FieldType.int))) 3 [cz_r l0] h oh := cz_met (plainFor_of_name (by decide)) (Nat.le_of_ble_eq_true rfl) hz (fun K hl S => wk_J7_length S)
/-! java/lang/String.<init>(Ljava/lang/AbstractStringBuilder;Ljava/lang/Void;)V -/
def dkwJ8_init_2_4 : List UInt8 := [181, 0, 9, 177]
abbrev dktJ8_init_2_4 : List UInt8 := dkwJ8_init_2_4 ++ []
def dkwJ8_init_2_3 : List UInt8 := [184, 0, 47, 181, 0, 15, 177, 42, 4, 181, 0, 15, 42, 45, 3, 21, 4, 4, 120, 184, 0, 54]
abbrev dktJ8_init_2_3 : List UInt8 := dkwJ8_init_2_3 ++ dktJ8_init_2_4
def dkwJ8_init_2_2 : List UInt8 := [180, 4, 24, 153, 0, 28, 42, 45, 3, 21, 4, 184, 4, 27, 181, 0, 9, 42, 42, 180, 0, 9, 21, 4]
abbrev dktJ8_init_2_2 : List UInt8 := dkwJ8_init_2_2 ++ dktJ8_init_2_3
def dkwJ8_init_2_1 : List UInt8 := [181, 0, 15, 42, 45, 3, 21, 4, 184, 0, 54, 181, 0, 9, 167, 0, 59, 178, 0, 38, 153, 0, 35, 43]
abbrev dktJ8_init_2_1 : List UInt8 := dkwJ8_init_2_1 ++ dktJ8_init_2_2
def dkwJ8_init_2_0 : List UInt8 := [42, 183, 0, 1, 43, 182, 2, 40, 78, 43, 182, 2, 37, 54, 4, 43, 182, 4, 23, 153, 0, 22, 42, 3]
abbrev dktJ8_init_2_0 : List UInt8 := dkwJ8_init_2_0 ++ dktJ8_init_2_1
theorem dksJ8_init_2_0 : cJ8_init_2.data.toList.drop 0 = dktJ8_init_2_0 := by decide +kernel
theorem dksJ8_init_2_1 : cJ8_init_2.data.toList.drop 24 = dktJ8_init_2_1 := dk_seg dksJ8_init_2_0 24 rfl rfl
theorem dksJ8_init_2_2 : cJ8_init_2.data.toList.drop 48 = dktJ8_init_2_2 := dk_seg dksJ8_init_2_1 24 rfl rfl
theorem dksJ8_init_2_3 : cJ8_init_2.data.toList.drop 72 = dktJ8_init_2_3 := dk_seg dksJ8_init_2_2 24 rfl rfl
theorem dksJ8_init_2_4 : cJ8_init_2.data.toList.drop 94 = dktJ8_init_2_4 := dk_seg dksJ8_init_2_3 22 rfl rfl
theorem dJ8_init_2_0 : decode cJ8_init_2 0 = .ok (.aload_n 0, 1) := dk_42 (dk_at dksJ8_init_2_0 0 rfl rfl)
theorem dJ8_init_2_1 : decode cJ8_init_2 1 = .ok (.invokespecial 1, 3) := dk_183 0 1 (dk_at dksJ8_init_2_0 1 rfl rfl)
theorem dJ8_init_2_4 : decode cJ8_init_2 4 = .ok (.aload_n 1, 1) := dk_43 (dk_at dksJ8_init_2_0 4 rfl rfl)
theorem dJ8_init_2_5 : decode cJ8_init_2 5 = .ok (.invokevirtual 552, 3) := dk_182 2 40 (dk_at dksJ8_init_2_0 5 rfl rfl)
theorem dJ8_init_2_8 : decode cJ8_init_2 8 = .ok (.astore_n 3, 1) := dk_78 (dk_at dksJ8_init_2_0 8 rfl rfl)
theorem dJ8_init_2_9 : decode cJ8_init_2 9 = .ok (.aload_n 1, 1) := dk_43 (dk_at dksJ8_init_2_0 9 rfl rfl)
theorem dJ8_init_2_10 : decode cJ8_init_2 10 = .ok (.invokevirtual 549, 3) := dk_182 2 37 (dk_at dksJ8_init_2_0 10 rfl rfl)
theorem dJ8_init_2_13 : decode cJ8_init_2 13 = .ok (.istore 4, 2) := dk_54 4 (dk_at dksJ8_init_2_0 13 rfl rfl)
theorem dJ8_init_2_15 : decode cJ8_init_2 15 = .ok (.aload_n 1, 1) := dk_43 (dk_at dksJ8_init_2_0 15 rfl rfl)
theorem dJ8_init_2_16 : decode cJ8_init_2 16 = .ok (.invokevirtual 1047, 3) := dk_182 4 23 (dk_at dksJ8_init_2_0 16 rfl rfl)
theorem dJ8_init_2_19 : decode cJ8_init_2 19 = .ok (.ifCond .eq 22, 3) := dk_153 0 22 (dk_at dksJ8_init_2_0 19 rfl rfl)
theorem dJ8_init_2_22 : decode cJ8_init_2 22 = .ok (.aload_n 0, 1) := dk_42 (dk_at dksJ8_init_2_0 22 rfl rfl)
theorem dJ8_init_2_23 : decode cJ8_init_2 23 = .ok (.iconst 0, 1) := dk_3 (dk_at dksJ8_init_2_0 23 rfl rfl)
theorem dJ8_init_2_24 : decode cJ8_init_2 24 = .ok (.putfield 15, 3) := dk_181 0 15 (dk_at dksJ8_init_2_1 0 rfl rfl)
theorem dJ8_init_2_27 : decode cJ8_init_2 27 = .ok (.aload_n 0, 1) := dk_42 (dk_at dksJ8_init_2_1 3 rfl rfl)
theorem dJ8_init_2_28 : decode cJ8_init_2 28 = .ok (.aload_n 3, 1) := dk_45 (dk_at dksJ8_init_2_1 4 rfl rfl)
theorem dJ8_init_2_29 : decode cJ8_init_2 29 = .ok (.iconst 0, 1) := dk_3 (dk_at dksJ8_init_2_1 5 rfl rfl)
theorem dJ8_init_2_30 : decode cJ8_init_2 30 = .ok (.iload 4, 2) := dk_21 4 (dk_at dksJ8_init_2_1 6 rfl rfl)
theorem dJ8_init_2_32 : decode cJ8_init_2 32 = .ok (.invokestatic 54, 3) := dk_184 0 54 (dk_at dksJ8_init_2_1 8 rfl rfl)
theorem dJ8_init_2_35 : decode cJ8_init_2 35 = .ok (.putfield 9, 3) := dk_181 0 9 (dk_at dksJ8_init_2_1 11 rfl rfl)
theorem dJ8_init_2_38 : decode cJ8_init_2 38 = .ok (.goto 59, 3) := dk_167 0 59 (dk_at dksJ8_init_2_1 14 rfl rfl)
theorem dJ8_init_2_41 : decode cJ8_init_2 41 = .ok (.getstatic 38, 3) := dk_178 0 38 (dk_at dksJ8_init_2_1 17 rfl rfl)
theorem dJ8_init_2_44 : decode cJ8_init_2 44 = .ok (.ifCond .eq 35, 3) := dk_153 0 35 (dk_at dksJ8_init_2_1 20 rfl rfl)
theorem dJ8_init_2_47 : decode cJ8_init_2 47 = .ok (.aload_n 1, 1) := dk_43 (dk_at dksJ8_init_2_1 23 rfl rfl)
theorem dJ8_init_2_48 : decode cJ8_init_2 48 = .ok (.getfield 1048, 3) := dk_180 4 24 (dk_at dksJ8_init_2_2 0 rfl rfl)
theorem dJ8_init_2_51 : decode cJ8_init_2 51 = .ok (.ifCond .eq 28, 3) := dk_153 0 28 (dk_at dksJ8_init_2_2 3 rfl rfl)
theorem dJ8_init_2_54 : decode cJ8_init_2 54 = .ok (.aload_n 0, 1) := dk_42 (dk_at dksJ8_init_2_2 6 rfl rfl)
theorem dJ8_init_2_55 : decode cJ8_init_2 55 = .ok (.aload_n 3, 1) := dk_45 (dk_at dksJ8_init_2_2 7 rfl rfl)
theorem dJ8_init_2_56 : decode cJ8_init_2 56 = .ok (.iconst 0, 1) := dk_3 (dk_at dksJ8_init_2_2 8 rfl rfl)
theorem dJ8_init_2_57 : decode cJ8_init_2 57 = .ok (.iload 4, 2) := dk_21 4 (dk_at dksJ8_init_2_2 9 rfl rfl)
theorem dJ8_init_2_59 : decode cJ8_init_2 59 = .ok (.invokestatic 1051, 3) := dk_184 4 27 (dk_at dksJ8_init_2_2 11 rfl rfl)
theorem dJ8_init_2_62 : decode cJ8_init_2 62 = .ok (.putfield 9, 3) := dk_181 0 9 (dk_at dksJ8_init_2_2 14 rfl rfl)
theorem dJ8_init_2_65 : decode cJ8_init_2 65 = .ok (.aload_n 0, 1) := dk_42 (dk_at dksJ8_init_2_2 17 rfl rfl)
theorem dJ8_init_2_66 : decode cJ8_init_2 66 = .ok (.aload_n 0, 1) := dk_42 (dk_at dksJ8_init_2_2 18 rfl rfl)
theorem dJ8_init_2_67 : decode cJ8_init_2 67 = .ok (.getfield 9, 3) := dk_180 0 9 (dk_at dksJ8_init_2_2 19 rfl rfl)
theorem dJ8_init_2_70 : decode cJ8_init_2 70 = .ok (.iload 4, 2) := dk_21 4 (dk_at dksJ8_init_2_2 22 rfl rfl)
theorem dJ8_init_2_72 : decode cJ8_init_2 72 = .ok (.invokestatic 47, 3) := dk_184 0 47 (dk_at dksJ8_init_2_3 0 rfl rfl)
theorem dJ8_init_2_75 : decode cJ8_init_2 75 = .ok (.putfield 15, 3) := dk_181 0 15 (dk_at dksJ8_init_2_3 3 rfl rfl)
theorem dJ8_init_2_78 : decode cJ8_init_2 78 = .ok (.return_, 1) := dk_177 (dk_at dksJ8_init_2_3 6 rfl rfl)
theorem dJ8_init_2_79 : decode cJ8_init_2 79 = .ok (.aload_n 0, 1) := dk_42 (dk_at dksJ8_init_2_3 7 rfl rfl)
theorem dJ8_init_2_80 : decode cJ8_init_2 80 = .ok (.iconst 1, 1) := dk_4 (dk_at dksJ8_init_2_3 8 rfl rfl)
theorem dJ8_init_2_81 : decode cJ8_init_2 81 = .ok (.putfield 15, 3) := dk_181 0 15 (dk_at dksJ8_init_2_3 9 rfl rfl)
theorem dJ8_init_2_84 : decode cJ8_init_2 84 = .ok (.aload_n 0, 1) := dk_42 (dk_at dksJ8_init_2_3 12 rfl rfl)
theorem dJ8_init_2_85 : decode cJ8_init_2 85 = .ok (.aload_n 3, 1) := dk_45 (dk_at dksJ8_init_2_3 13 rfl rfl)
theorem dJ8_init_2_86 : decode cJ8_init_2 86 = .ok (.iconst 0, 1) := dk_3 (dk_at dksJ8_init_2_3 14 rfl rfl)
theorem dJ8_init_2_87 : decode cJ8_init_2 87 = .ok (.iload 4, 2) := dk_21 4 (dk_at dksJ8_init_2_3 15 rfl rfl)
theorem dJ8_init_2_89 : decode cJ8_init_2 89 = .ok (.iconst 1, 1) := dk_4 (dk_at dksJ8_init_2_3 17 rfl rfl)
theorem dJ8_init_2_90 : decode cJ8_init_2 90 = .ok (.ishl, 1) := dk_120 (dk_at dksJ8_init_2_3 18 rfl rfl)
theorem dJ8_init_2_91 : decode cJ8_init_2 91 = .ok (.invokestatic 54, 3) := dk_184 0 54 (dk_at dksJ8_init_2_3 19 rfl rfl)
theorem dJ8_init_2_94 : decode cJ8_init_2 94 = .ok (.putfield 9, 3) := dk_181 0 9 (dk_at dksJ8_init_2_4 0 rfl rfl)
theorem dJ8_init_2_97 : decode cJ8_init_2 97 = .ok (.return_, 1) := dk_177 (dk_at dksJ8_init_2_4 3 rfl rfl)
theorem se_java_lang_AbstractStringBuilder_getValue____B_java_lang_AbstractStringBuilder : ∀ c ∈ ([7] : List Nat), ∃ q : vw_C, cz_cl[c]? = some q ∧ Cond.selects q.1 (⟨"java/lang/AbstractStringBuilder", "getValue", "()[B"⟩ : MethodName) (⟨"java/lang/AbstractStringBuilder", "getValue", "()[B"⟩ : MethodName) ∈ lw_all := List.forall_mem_cons.mpr ⟨⟨_, cz_cl7, q672⟩, fun _ h => absurd h List.not_mem_nil⟩
theorem md_J6_getValue : cz_md yJ6_getValue 1 (ws_ yJ6_getValue cJ6_getValue 1 ((Option.some (Jvm.ClassFile.FieldType.array Jvm.ClassFile.FieldType.byte)))) 0 := ⟨cz_ws_code q673, q126, ⟨by decide, by decide, by decide +kernel⟩, by decide⟩
theorem se_java_lang_AbstractStringBuilder_length___I_java_lang_StringBuilder : ∀ c ∈ ([7] : List Nat), ∃ q : vw_C, cz_cl[c]? = some q ∧ Cond.selects q.1 (⟨"java/lang/AbstractStringBuilder", "length", "()I"⟩ : MethodName) (⟨"java/lang/StringBuilder", "length", "()I"⟩ : MethodName) ∈ lw_all := List.forall_mem_cons.mpr ⟨⟨_, cz_cl7, q677⟩, fun _ h => absurd h List.not_mem_nil⟩
theorem fw_J8_1048 : cz_FW "java/lang/String" 1048 [(7, 2)] "Z" := ⟨"java/lang/AbstractStringBuilder", "maybeLatin1", Or.inl q552, List.forall_mem_cons.mpr ⟨⟨RJ7, TJ7, 4, rfl, by decide, rfl, rfl, Or.inl rfl⟩, fun _ h => absurd h List.not_mem_nil⟩, by decide⟩
theorem fw_J8_15 : cz_FW "java/lang/String" 15 [(8, 1)] "B" := ⟨"java/lang/String", "coder", Or.inl q707, List.forall_mem_cons.mpr ⟨⟨RJ8, TJ8, 4, rfl, by decide, rfl, rfl, Or.inl rfl⟩, fun _ h => absurd h List.not_mem_nil⟩, by decide⟩
theorem fp_J8_i_8_1 : cz_FP "java/lang/String" "<init>" [(8, 1)] := List.forall_mem_cons.mpr ⟨⟨RJ8, TJ8, 4, rfl, Or.inr ⟨rfl, rfl, rfl⟩⟩, fun _ h => absurd h List.not_mem_nil⟩
theorem md_J3_copyOfRange : cz_md yJ3_copyOfRange 3 (ws_ yJ3_copyOfRange cJ3_copyOfRange 3 ((Option.some (Jvm.ClassFile.FieldType.array Jvm.ClassFile.FieldType.byte)))) 3 := ⟨cz_ws_code q685, q119, ⟨by decide, by decide, by decide +kernel⟩, by decide⟩
theorem fw_J8_9 : cz_FW "java/lang/String" 9 [(8, 0)] "[B" := ⟨"java/lang/String", "value", Or.inl q706, List.forall_mem_cons.mpr ⟨⟨RJ8, TJ8, 4, rfl, by decide, rfl, rfl, Or.inl rfl⟩, fun _ h => absurd h List.not_mem_nil⟩, by decide⟩
theorem fp_J8_i_8_0 : cz_FP "java/lang/String" "<init>" [(8, 0)] := List.forall_mem_cons.mpr ⟨⟨RJ8, TJ8, 4, rfl, Or.inr ⟨rfl, rfl, rfl⟩⟩, fun _ h => absurd h List.not_mem_nil⟩
set_option maxHeartbeats 4000000 in
set_option maxRecDepth 100000 in
noncomputable def fn_J8_init_2 (l0 : Option Nat) (l1 : Option Nat) (l2 : Option Nat) (h : cz_H) : cz_Z := cz_nn' l0 (cz_rc h l1 [7] (cz_cR (fn_J6_getValue l1 h) (fun r8 h7 => cz_rc h7 l1 [7] (cz_cI (fn_J7_length l1 h7) (fun x16 h15 => cz_rc h15 l1 [7] (cz_cI (fn_J6_isLatin1 l1 h15) (fun x24 h23 => (if x24 = 0 then cz_jn (fun (h25 : cz_H) => cz_put h25 l0 [(8, 1)] (cz_i 1) (fun h26 => cz_cR (fn_J3_copyOfRange r8 0 (x16 <<< ((1 : Int32) &&& 31)) h26) (fun r28 h27 => cz_put h27 l0 [(8, 0)] (cz_r r28) (fun h29 => some (.inl none, h29))))) (fun j30 => (if (1 : Int32) = 0 then j30 h23 else cz_getI h23 l1 [(7, 2)] (fun x31 => (if x31 = 0 then j30 h23 else none)))) else cz_put h23 l0 [(8, 1)] (cz_i 0) (fun h32 => cz_cR (fn_J3_copyOfRange r8 0 x16 h32) (fun r34 h33 => cz_put h33 l0 [(8, 0)] (cz_r r34) (fun h35 => some (.inl none, h35))))))))))))
set_option maxHeartbeats 4000000 in
set_option maxRecDepth 100000 in
theorem wk_J8_init_2 {K : cz_K} {D : cz_D} {h0 : cz_H} {oh : cz_O × cz_H} {l0 : Option Nat} {l1 : Option Nat} {l2 : Option Nat} {h : cz_H} (S : cz_S K D h0 cJ8_init_2 5 "java/lang/String" ((Option.none : Option Jvm.ClassFile.FieldType)) "<init>" ([])) : cz_T K D 5 h0 oh 5 (fn_J8_init_2 l0 l1 l2 h) h 0 [(0, cz_r l0), (1, cz_r l1), (2, cz_r l2)] [] := by
  unfold fn_J8_init_2
  refine ct_aload_n (k := 0) S dJ8_init_2_0 rfl rfl ?_
  refine ct_oinit S q668 q165 q166 (by decide) (Nat.le_of_ble_eq_true rfl) dJ8_init_2_1 ?_
  refine ct_aload_n (k := 1) S dJ8_init_2_4 rfl rfl ?_
  refine ct_rc (fun b1 ci2 V3 hb4 hc5 hi6 => ?_)
  refine ct_cR (st := []) (cg_virtual (av := []) S hb4 hc5 hi6 (fun _ e => mt_J6_getValue e) md_J6_getValue q669 q670 se_java_lang_AbstractStringBuilder_getValue____B_java_lang_AbstractStringBuilder (by decide) (Nat.le_of_ble_eq_true rfl) rfl dJ8_init_2_5) (fun r8 h7 => ?_)
  refine ct_astore_n (L' := [(3, cz_r r8), (0, cz_r l0), (1, cz_r l1), (2, cz_r l2)]) S dJ8_init_2_8 rfl (by decide) rfl ?_
  refine ct_aload_n (k := 2) S dJ8_init_2_9 rfl rfl ?_
  refine ct_rc (fun b9 ci10 V11 hb12 hc13 hi14 => ?_)
  refine ct_cI (st := []) (cg_up (owner := "java/lang/AbstractStringBuilder") (av := []) S hb12 hc13 hi14 (fun _ e => mt_J7_length e) q679 q674 q676 (Or.inr ⟨q675, _, _, _, q681⟩) ⟨by decide, by decide⟩ q678 q127 nh_java_lang_AbstractStringBuilder_length___I se_java_lang_AbstractStringBuilder_length___I_java_lang_StringBuilder (by decide) (by decide) (Nat.le_of_ble_eq_true rfl) rfl dJ8_init_2_10) (fun x16 h15 => ?_)
  refine ct_istore (L' := [(4, cz_i x16), (3, cz_r r8), (0, cz_r l0), (1, cz_r l1), (2, cz_r l2)]) S dJ8_init_2_13 (by decide) rfl ?_
  refine ct_aload_n (k := 3) S dJ8_init_2_15 rfl rfl ?_
  refine ct_rc (fun b17 ci18 V19 hb20 hc21 hi22 => ?_)
  refine ct_cI (st := []) (cg_virtual (av := []) S hb20 hc21 hi22 (fun _ e => mt_J6_isLatin1 e) md_J6_isLatin1 q682 q606 se_java_lang_AbstractStringBuilder_isLatin1___Z_java_lang_AbstractStringBuilder (by decide) (Nat.le_of_ble_eq_true rfl) rfl dJ8_init_2_16) (fun x24 h23 => ?_)
  refine ct_if_eq (tgt := 41) S dJ8_init_2_19 (by decide) ?_ ?_
  · refine ct_gets (i := 0) S rfl q692 dJ8_init_2_41 ?_
    refine ct_jnP (fun j30 => ∀ (h25 : cz_H), cz_T K D 5 h0 oh 5 (j30 h25) h25 79 [(0, cz_r l0), (3, cz_r r8), (4, cz_i x16)] []) (fun h25 => ?_) (fun j30 Hj30 => ?_)
    · refine ct_aload_n (k := 0) S dJ8_init_2_79 rfl rfl ?_
      refine ct_iconst (v := 1) S dJ8_init_2_80 kI_1 ?_
      refine ct_put S fw_J8_15 fp_J8_i_8_1 (cz_fits_b pd_B rfl) dJ8_init_2_81 (fun h26 => ?_)
      refine ct_aload_n (k := 0) S dJ8_init_2_84 rfl rfl ?_
      refine ct_aload_n (k := 1) S dJ8_init_2_85 rfl rfl ?_
      refine ct_iconst (v := 0) S dJ8_init_2_86 kI_0 ?_
      refine ct_iload (k := 2) S dJ8_init_2_87 rfl ?_
      refine ct_iconst (v := 1) S dJ8_init_2_89 kI_1 ?_
      refine ct_ishl S dJ8_init_2_90 ?_
      refine ct_cR (st := [cz_r l0]) (cg_static (av := [cz_r r8, cz_i 0, cz_i (x16 <<< ((1 : Int32) &&& 31))]) S (fun _ e => mt_J3_copyOfRange e) md_J3_copyOfRange (Or.inl q683) q684 (by decide) (Nat.le_of_ble_eq_true rfl) rfl dJ8_init_2_91) (fun r28 h27 => ?_)
      refine ct_put S fw_J8_9 fp_J8_i_8_0 (cz_fits_a pd__B) dJ8_init_2_94 (fun h29 => ?_)
      exact ct_vret S rfl dJ8_init_2_97
    · refine ct_if_eq (tgt := 79) S dJ8_init_2_44 (by decide) ?_ ?_
      · exact ct_sub [2, 1, 0] rfl (Hj30 h23)
      · refine ct_aload_n (k := 3) S dJ8_init_2_47 rfl rfl ?_
        refine ct_getI S fw_J8_1048 dJ8_init_2_48 (fun x31 => ?_)
        refine ct_if_eq (tgt := 79) S dJ8_init_2_51 (by decide) ?_ ?_
        · exact ct_sub [2, 1, 0] rfl (Hj30 h23)
        · refine ct_aload_n (k := 2) S dJ8_init_2_54 rfl rfl ?_
          refine ct_aload_n (k := 1) S dJ8_init_2_55 rfl rfl ?_
          refine ct_iconst (v := 0) S dJ8_init_2_56 kI_0 ?_
          refine ct_iload (k := 0) S dJ8_init_2_57 rfl ?_
          exact ct_none
  · refine ct_aload_n (k := 2) S dJ8_init_2_22 rfl rfl ?_
    refine ct_iconst (v := 0) S dJ8_init_2_23 kI_0 ?_
    refine ct_put S fw_J8_15 fp_J8_i_8_1 (cz_fits_b pd_B rfl) dJ8_init_2_24 (fun h32 => ?_)
    refine ct_aload_n (k := 2) S dJ8_init_2_27 rfl rfl ?_
    refine ct_aload_n (k := 1) S dJ8_init_2_28 rfl rfl ?_
    refine ct_iconst (v := 0) S dJ8_init_2_29 kI_0 ?_
    refine ct_iload (k := 0) S dJ8_init_2_30 rfl ?_
    refine ct_cR (st := [cz_r l0]) (cg_static (av := [cz_r r8, cz_i 0, cz_i x16]) S (fun _ e => mt_J3_copyOfRange e) md_J3_copyOfRange (Or.inl q683) q684 (by decide) (Nat.le_of_ble_eq_true rfl) rfl dJ8_init_2_32) (fun r34 h33 => ?_)
    refine ct_put S fw_J8_9 fp_J8_i_8_0 (cz_fits_a pd__B) dJ8_init_2_35 (fun h35 => ?_)
    refine ct_goto (tgt := 97) S dJ8_init_2_38 (by decide) ?_
    exact ct_vret S rfl dJ8_init_2_97
theorem mt_J8_init_2 {l : Launch} {D : cz_D} {l0 : Option Nat} {l1 : Option Nat} {l2 : Option Nat} {h : cz_H} {oh : cz_O × cz_H} (hz : fn_J8_init_2 l0 l1 l2 h = some oh) : cz_M l D yJ8_init_2 (ws_ yJ8_init_2 cJ8_init_2 5 ((Option.none : Option Jvm.ClassFile.FieldType))) 5 [cz_r l0, cz_r l1, cz_r l2] h oh := cz_met (plainFor_of_name (by decide)) (Nat.le_of_ble_eq_true rfl) hz (fun K hl S => wk_J8_init_2 S)
/-! java/lang/String.<init>(Ljava/lang/StringBuilder;)V -/
def dkwJ8_init_0 : List UInt8 := [42, 43, 1, 183, 1, 233, 177]
abbrev dktJ8_init_0 : List UInt8 := dkwJ8_init_0 ++ []
theorem dksJ8_init_0 : cJ8_init.data.toList.drop 0 = dktJ8_init_0 := by decide +kernel
theorem dJ8_init_0 : decode cJ8_init 0 = .ok (.aload_n 0, 1) := dk_42 (dk_at dksJ8_init_0 0 rfl rfl)
theorem dJ8_init_1 : decode cJ8_init 1 = .ok (.aload_n 1, 1) := dk_43 (dk_at dksJ8_init_0 1 rfl rfl)
theorem dJ8_init_2 : decode cJ8_init 2 = .ok (.aconst_null, 1) := dk_1 (dk_at dksJ8_init_0 2 rfl rfl)
theorem dJ8_init_3 : decode cJ8_init 3 = .ok (.invokespecial 489, 3) := dk_183 1 233 (dk_at dksJ8_init_0 3 rfl rfl)
theorem dJ8_init_6 : decode cJ8_init 6 = .ok (.return_, 1) := dk_177 (dk_at dksJ8_init_0 6 rfl rfl)
theorem nh_java_lang_String__init___Ljava_lang_AbstractStringBuilder_Ljava_lang_Void__V : cz_nh ⟨"java/lang/String", "<init>", "(Ljava/lang/AbstractStringBuilder;Ljava/lang/Void;)V"⟩ 2 := ⟨by decide, by decide, by decide +kernel⟩
set_option maxHeartbeats 4000000 in
set_option maxRecDepth 100000 in
noncomputable def fn_J8_init (l0 : Option Nat) (l1 : Option Nat) (h : cz_H) : cz_Z := cz_nn' l0 (cz_cV (fn_J8_init_2 l0 l1 none h) (fun h3 => some (.inl none, h3)))
set_option maxHeartbeats 4000000 in
set_option maxRecDepth 100000 in
theorem wk_J8_init {K : cz_K} {D : cz_D} {h0 : cz_H} {oh : cz_O × cz_H} {l0 : Option Nat} {l1 : Option Nat} {h : cz_H} (S : cz_S K D h0 cJ8_init 2 "java/lang/String" ((Option.none : Option Jvm.ClassFile.FieldType)) "<init>" ([])) : cz_T K D 6 h0 oh 2 (fn_J8_init l0 l1 h) h 0 [(0, cz_r l0), (1, cz_r l1)] [] := by
  unfold fn_J8_init
  refine ct_aload_n (k := 0) S dJ8_init_0 rfl rfl ?_
  refine ct_aload_n (k := 1) S dJ8_init_1 rfl rfl ?_
  refine ct_null S dJ8_init_2 ?_
  refine ct_nn (fun b1 hb2 => ?_)
  refine ct_cV (st := []) (cg_init (av := [cz_r l1, cz_r none]) S hb2 (fun _ e => mt_J8_init_2 e) q667 (Or.inl q665) rfl q666 q128 nh_java_lang_String__init___Ljava_lang_AbstractStringBuilder_Ljava_lang_Void__V (by decide) (by decide) (Nat.le_of_ble_eq_true rfl) rfl dJ8_init_3) (fun h3 => ?_)
  exact ct_vret S rfl dJ8_init_6
theorem mt_J8_init {l : Launch} {D : cz_D} {l0 : Option Nat} {l1 : Option Nat} {h : cz_H} {oh : cz_O × cz_H} (hz : fn_J8_init l0 l1 h = some oh) : cz_M l D yJ8_init (ws_ yJ8_init cJ8_init 2 ((Option.none : Option Jvm.ClassFile.FieldType))) 6 [cz_r l0, cz_r l1] h oh := cz_met (plainFor_of_name (by decide)) (Nat.le_of_ble_eq_true rfl) hz (fun K hl S => wk_J8_init S)
/-! java/lang/StringBuilder.toString()Ljava/lang/String; -/
def dkwJ7_toString_0 : List UInt8 := [187, 0, 18, 89, 42, 183, 0, 137, 176]
abbrev dktJ7_toString_0 : List UInt8 := dkwJ7_toString_0 ++ []
theorem dksJ7_toString_0 : cJ7_toString.data.toList.drop 0 = dktJ7_toString_0 := by decide +kernel
theorem dJ7_toString_0 : decode cJ7_toString 0 = .ok (.new 18, 3) := dk_187 0 18 (dk_at dksJ7_toString_0 0 rfl rfl)
theorem dJ7_toString_3 : decode cJ7_toString 3 = .ok (.dup, 1) := dk_89 (dk_at dksJ7_toString_0 3 rfl rfl)
theorem dJ7_toString_4 : decode cJ7_toString 4 = .ok (.aload_n 0, 1) := dk_42 (dk_at dksJ7_toString_0 4 rfl rfl)
theorem dJ7_toString_5 : decode cJ7_toString 5 = .ok (.invokespecial 137, 3) := dk_183 0 137 (dk_at dksJ7_toString_0 5 rfl rfl)
theorem dJ7_toString_8 : decode cJ7_toString 8 = .ok (.areturn, 1) := dk_176 (dk_at dksJ7_toString_0 8 rfl rfl)
theorem nh_java_lang_String__init___Ljava_lang_StringBuilder__V : cz_nh ⟨"java/lang/String", "<init>", "(Ljava/lang/StringBuilder;)V"⟩ 1 := ⟨by decide, by decide, by decide +kernel⟩
set_option maxHeartbeats 4000000 in
set_option maxRecDepth 100000 in
noncomputable def fn_J7_toString (l0 : Option Nat) (h : cz_H) : cz_Z := cz_newo h 8 4 (fun r1 h2 => cz_nn' r1 (cz_cV (fn_J8_init r1 l0 h2) (fun h5 => some (.inl (some (cz_r r1)), h5))))
set_option maxHeartbeats 4000000 in
set_option maxRecDepth 100000 in
theorem wk_J7_toString {K : cz_K} {D : cz_D} {h0 : cz_H} {oh : cz_O × cz_H} {l0 : Option Nat} {h : cz_H} (S : cz_S K D h0 cJ7_toString 1 "java/lang/StringBuilder" ((Option.some (Jvm.ClassFile.FieldType.object "java/lang/String"))) "toString" ([])) : cz_T K D 7 h0 oh 1 (fn_J7_toString l0 h) h 0 [(0, cz_r l0)] [] := by
  unfold fn_J7_toString
  refine ct_newo S (by decide) cz_cl8 q660 dJ7_toString_0 (fun r1 h2 => ?_)
  refine ct_dup S dJ7_toString_3 rfl ?_
  refine ct_aload_n (k := 0) S dJ7_toString_4 rfl rfl ?_
  refine ct_nn (fun b3 hb4 => ?_)
  refine ct_cV (st := [cz_r r1]) (cg_init (av := [cz_r l0]) S hb4 (fun _ e => mt_J8_init e) q664 (Or.inl q662) rfl q663 q128 nh_java_lang_String__init___Ljava_lang_StringBuilder__V (by decide) (by decide) (Nat.le_of_ble_eq_true rfl) rfl dJ7_toString_5) (fun h5 => ?_)
  exact ct_aret S rfl (Or.inl ⟨_, rfl⟩) dJ7_toString_8
theorem mt_J7_toString {l : Launch} {D : cz_D} {l0 : Option Nat} {h : cz_H} {oh : cz_O × cz_H} (hz : fn_J7_toString l0 h = some oh) : cz_M l D yJ7_toString (ws_ yJ7_toString cJ7_toString 1 ((Option.some (Jvm.ClassFile.FieldType.object "java/lang/String")))) 7 [cz_r l0] h oh := cz_met (plainFor_of_name (by decide)) (Nat.le_of_ble_eq_true rfl) hz (fun K hl S => wk_J7_toString S)
/-! HeldCoats$Reader.byteAt(I)I -/
def dkwX6_byteAt_0 : List UInt8 := [27, 42, 180, 0, 21, 162, 0, 16, 42, 180, 0, 17, 27, 51, 17, 0, 255, 126, 167, 0, 4, 3, 172]
abbrev dktX6_byteAt_0 : List UInt8 := dkwX6_byteAt_0 ++ []
theorem dksX6_byteAt_0 : cX6_byteAt.data.toList.drop 0 = dktX6_byteAt_0 := by decide +kernel
theorem dX6_byteAt_0 : decode cX6_byteAt 0 = .ok (.iload_n 1, 1) := dk_27 (dk_at dksX6_byteAt_0 0 rfl rfl)
theorem dX6_byteAt_1 : decode cX6_byteAt 1 = .ok (.aload_n 0, 1) := dk_42 (dk_at dksX6_byteAt_0 1 rfl rfl)
theorem dX6_byteAt_2 : decode cX6_byteAt 2 = .ok (.getfield 21, 3) := dk_180 0 21 (dk_at dksX6_byteAt_0 2 rfl rfl)
theorem dX6_byteAt_5 : decode cX6_byteAt 5 = .ok (.if_icmp .ge 16, 3) := dk_162 0 16 (dk_at dksX6_byteAt_0 5 rfl rfl)
theorem dX6_byteAt_8 : decode cX6_byteAt 8 = .ok (.aload_n 0, 1) := dk_42 (dk_at dksX6_byteAt_0 8 rfl rfl)
theorem dX6_byteAt_9 : decode cX6_byteAt 9 = .ok (.getfield 17, 3) := dk_180 0 17 (dk_at dksX6_byteAt_0 9 rfl rfl)
theorem dX6_byteAt_12 : decode cX6_byteAt 12 = .ok (.iload_n 1, 1) := dk_27 (dk_at dksX6_byteAt_0 12 rfl rfl)
theorem dX6_byteAt_13 : decode cX6_byteAt 13 = .ok (.baload, 1) := dk_51 (dk_at dksX6_byteAt_0 13 rfl rfl)
theorem dX6_byteAt_14 : decode cX6_byteAt 14 = .ok (.sipush 255, 3) := dk_17 0 255 (dk_at dksX6_byteAt_0 14 rfl rfl)
theorem dX6_byteAt_17 : decode cX6_byteAt 17 = .ok (.iand, 1) := dk_126 (dk_at dksX6_byteAt_0 17 rfl rfl)
theorem dX6_byteAt_18 : decode cX6_byteAt 18 = .ok (.goto 4, 3) := dk_167 0 4 (dk_at dksX6_byteAt_0 18 rfl rfl)
theorem dX6_byteAt_21 : decode cX6_byteAt 21 = .ok (.iconst 0, 1) := dk_3 (dk_at dksX6_byteAt_0 21 rfl rfl)
theorem dX6_byteAt_22 : decode cX6_byteAt 22 = .ok (.ireturn, 1) := dk_172 (dk_at dksX6_byteAt_0 22 rfl rfl)
set_option maxHeartbeats 4000000 in
set_option maxRecDepth 100000 in
noncomputable def fn_X6_byteAt (l0 : Option Nat) (l1 : Int32) (h : cz_H) : cz_Z := cz_getI h l0 [(6, 1), (16, 1), (18, 1)] (fun x1 => (if x1 ≤ l1 then some (.inl (some (cz_i 0)), h) else cz_getR h l0 [(6, 0), (16, 0), (18, 0)] (fun r2 => cz_bald h r2 l1 (fun x3 => some (.inl (some (cz_i (x3 &&& 255))), h)))))
set_option maxHeartbeats 4000000 in
set_option maxRecDepth 100000 in
theorem wk_X6_byteAt {K : cz_K} {D : cz_D} {h0 : cz_H} {oh : cz_O × cz_H} {l0 : Option Nat} {l1 : Int32} {h : cz_H} (S : cz_S K D h0 cX6_byteAt 2 "HeldCoats$Reader" ((Option.some Jvm.ClassFile.FieldType.int)) "byteAt" ([])) : cz_T K D 2 h0 oh 2 (fn_X6_byteAt l0 l1 h) h 0 [(0, cz_r l0), (1, cz_i l1)] [] := by
  unfold fn_X6_byteAt
  refine ct_iload_n (k := 1) S dX6_byteAt_0 rfl rfl ?_
  refine ct_aload_n (k := 0) S dX6_byteAt_1 rfl rfl ?_
  refine ct_getI S fw_X6_21 dX6_byteAt_2 (fun x1 => ?_)
  refine ct_icmp_ge (tgt := 21) S dX6_byteAt_5 (by decide) ?_ ?_
  · refine ct_iconst (v := 0) S dX6_byteAt_21 kI_0 ?_
    exact ct_iret S rfl dX6_byteAt_22
  · refine ct_aload_n (k := 0) S dX6_byteAt_8 rfl rfl ?_
    refine ct_getR S fw_X6_17 dX6_byteAt_9 (fun r2 => ?_)
    refine ct_iload_n (k := 1) S dX6_byteAt_12 rfl rfl ?_
    refine ct_bald S dX6_byteAt_13 (fun x3 => ?_)
    refine ct_sipush (v := 255) S dX6_byteAt_14 kS_255 ?_
    refine ct_iand S dX6_byteAt_17 ?_
    refine ct_goto (tgt := 22) S dX6_byteAt_18 (by decide) ?_
    exact ct_iret S rfl dX6_byteAt_22
theorem mt_X6_byteAt {l : Launch} {D : cz_D} {l0 : Option Nat} {l1 : Int32} {h : cz_H} {oh : cz_O × cz_H} (hz : fn_X6_byteAt l0 l1 h = some oh) : cz_M l D yX6_byteAt (ws_ yX6_byteAt cX6_byteAt 2 ((Option.some Jvm.ClassFile.FieldType.int))) 2 [cz_r l0, cz_i l1] h oh := cz_met (plainFor_of_name (by decide)) (Nat.le_of_ble_eq_true rfl) hz (fun K hl S => wk_X6_byteAt S)
/-! HeldCoats$Reader.isDigit(I)Z -/
def dkwX6_isDigit_0 : List UInt8 := [26, 16, 48, 161, 0, 13, 26, 16, 57, 163, 0, 7, 4, 167, 0, 4, 3, 172]
abbrev dktX6_isDigit_0 : List UInt8 := dkwX6_isDigit_0 ++ []
theorem dksX6_isDigit_0 : cX6_isDigit.data.toList.drop 0 = dktX6_isDigit_0 := by decide +kernel
theorem dX6_isDigit_0 : decode cX6_isDigit 0 = .ok (.iload_n 0, 1) := dk_26 (dk_at dksX6_isDigit_0 0 rfl rfl)
theorem dX6_isDigit_1 : decode cX6_isDigit 1 = .ok (.bipush 48, 2) := dk_16 48 (dk_at dksX6_isDigit_0 1 rfl rfl)
theorem dX6_isDigit_3 : decode cX6_isDigit 3 = .ok (.if_icmp .lt 13, 3) := dk_161 0 13 (dk_at dksX6_isDigit_0 3 rfl rfl)
theorem dX6_isDigit_6 : decode cX6_isDigit 6 = .ok (.iload_n 0, 1) := dk_26 (dk_at dksX6_isDigit_0 6 rfl rfl)
theorem dX6_isDigit_7 : decode cX6_isDigit 7 = .ok (.bipush 57, 2) := dk_16 57 (dk_at dksX6_isDigit_0 7 rfl rfl)
theorem dX6_isDigit_9 : decode cX6_isDigit 9 = .ok (.if_icmp .gt 7, 3) := dk_163 0 7 (dk_at dksX6_isDigit_0 9 rfl rfl)
theorem dX6_isDigit_12 : decode cX6_isDigit 12 = .ok (.iconst 1, 1) := dk_4 (dk_at dksX6_isDigit_0 12 rfl rfl)
theorem dX6_isDigit_13 : decode cX6_isDigit 13 = .ok (.goto 4, 3) := dk_167 0 4 (dk_at dksX6_isDigit_0 13 rfl rfl)
theorem dX6_isDigit_16 : decode cX6_isDigit 16 = .ok (.iconst 0, 1) := dk_3 (dk_at dksX6_isDigit_0 16 rfl rfl)
theorem dX6_isDigit_17 : decode cX6_isDigit 17 = .ok (.ireturn, 1) := dk_172 (dk_at dksX6_isDigit_0 17 rfl rfl)
set_option maxHeartbeats 4000000 in
set_option maxRecDepth 100000 in
noncomputable def fn_X6_isDigit (l0 : Int32) (h : cz_H) : cz_Z := (if l0 < 48 then some (.inl (some (cz_i 0)), h) else (if (57 : Int32) < l0 then some (.inl (some (cz_i 0)), h) else some (.inl (some (cz_i 1)), h)))
set_option maxHeartbeats 4000000 in
set_option maxRecDepth 100000 in
theorem wk_X6_isDigit {K : cz_K} {D : cz_D} {h0 : cz_H} {oh : cz_O × cz_H} {l0 : Int32} {h : cz_H} (S : cz_S K D h0 cX6_isDigit 1 "HeldCoats$Reader" ((Option.some Jvm.ClassFile.FieldType.boolean)) "isDigit" ([])) : cz_T K D 2 h0 oh 1 (fn_X6_isDigit l0 h) h 0 [(0, cz_i l0)] [] := by
  unfold fn_X6_isDigit
  refine ct_iload_n (k := 0) S dX6_isDigit_0 rfl rfl ?_
  refine ct_bipush (v := 48) S dX6_isDigit_1 kB_48 ?_
  refine ct_icmp_lt (tgt := 16) S dX6_isDigit_3 (by decide) ?_ ?_
  · refine ct_iconst (v := 0) S dX6_isDigit_16 kI_0 ?_
    exact ct_zr (ty := .boolean) S rfl rfl dX6_isDigit_17
  · refine ct_iload_n (k := 0) S dX6_isDigit_6 rfl rfl ?_
    refine ct_bipush (v := 57) S dX6_isDigit_7 kB_57 ?_
    refine ct_icmp_gt (tgt := 16) S dX6_isDigit_9 (by decide) ?_ ?_
    · refine ct_iconst (v := 0) S dX6_isDigit_16 kI_0 ?_
      exact ct_zr (ty := .boolean) S rfl rfl dX6_isDigit_17
    · refine ct_iconst (v := 1) S dX6_isDigit_12 kI_1 ?_
      refine ct_goto (tgt := 17) S dX6_isDigit_13 (by decide) ?_
      exact ct_zr (ty := .boolean) S rfl rfl dX6_isDigit_17
theorem mt_X6_isDigit {l : Launch} {D : cz_D} {l0 : Int32} {h : cz_H} {oh : cz_O × cz_H} (hz : fn_X6_isDigit l0 h = some oh) : cz_M l D yX6_isDigit (ws_ yX6_isDigit cX6_isDigit 1 ((Option.some Jvm.ClassFile.FieldType.boolean))) 2 [cz_i l0] h oh := cz_met (plainFor_of_name (by decide)) (Nat.le_of_ble_eq_true rfl) hz (fun K hl S => wk_X6_isDigit S)
/-! HeldCoats$Reader.isLetter(I)Z -/
def dkwX6_isLetter_0 : List UInt8 := [26, 16, 97, 161, 0, 13, 26, 16, 122, 163, 0, 7, 4, 167, 0, 4, 3, 172]
abbrev dktX6_isLetter_0 : List UInt8 := dkwX6_isLetter_0 ++ []
theorem dksX6_isLetter_0 : cX6_isLetter.data.toList.drop 0 = dktX6_isLetter_0 := by decide +kernel
theorem dX6_isLetter_0 : decode cX6_isLetter 0 = .ok (.iload_n 0, 1) := dk_26 (dk_at dksX6_isLetter_0 0 rfl rfl)
theorem dX6_isLetter_1 : decode cX6_isLetter 1 = .ok (.bipush 97, 2) := dk_16 97 (dk_at dksX6_isLetter_0 1 rfl rfl)
theorem dX6_isLetter_3 : decode cX6_isLetter 3 = .ok (.if_icmp .lt 13, 3) := dk_161 0 13 (dk_at dksX6_isLetter_0 3 rfl rfl)
theorem dX6_isLetter_6 : decode cX6_isLetter 6 = .ok (.iload_n 0, 1) := dk_26 (dk_at dksX6_isLetter_0 6 rfl rfl)
theorem dX6_isLetter_7 : decode cX6_isLetter 7 = .ok (.bipush 122, 2) := dk_16 122 (dk_at dksX6_isLetter_0 7 rfl rfl)
theorem dX6_isLetter_9 : decode cX6_isLetter 9 = .ok (.if_icmp .gt 7, 3) := dk_163 0 7 (dk_at dksX6_isLetter_0 9 rfl rfl)
theorem dX6_isLetter_12 : decode cX6_isLetter 12 = .ok (.iconst 1, 1) := dk_4 (dk_at dksX6_isLetter_0 12 rfl rfl)
theorem dX6_isLetter_13 : decode cX6_isLetter 13 = .ok (.goto 4, 3) := dk_167 0 4 (dk_at dksX6_isLetter_0 13 rfl rfl)
theorem dX6_isLetter_16 : decode cX6_isLetter 16 = .ok (.iconst 0, 1) := dk_3 (dk_at dksX6_isLetter_0 16 rfl rfl)
theorem dX6_isLetter_17 : decode cX6_isLetter 17 = .ok (.ireturn, 1) := dk_172 (dk_at dksX6_isLetter_0 17 rfl rfl)
set_option maxHeartbeats 4000000 in
set_option maxRecDepth 100000 in
noncomputable def fn_X6_isLetter (l0 : Int32) (h : cz_H) : cz_Z := (if l0 < 97 then some (.inl (some (cz_i 0)), h) else (if (122 : Int32) < l0 then some (.inl (some (cz_i 0)), h) else some (.inl (some (cz_i 1)), h)))
set_option maxHeartbeats 4000000 in
set_option maxRecDepth 100000 in
theorem wk_X6_isLetter {K : cz_K} {D : cz_D} {h0 : cz_H} {oh : cz_O × cz_H} {l0 : Int32} {h : cz_H} (S : cz_S K D h0 cX6_isLetter 1 "HeldCoats$Reader" ((Option.some Jvm.ClassFile.FieldType.boolean)) "isLetter" ([])) : cz_T K D 2 h0 oh 1 (fn_X6_isLetter l0 h) h 0 [(0, cz_i l0)] [] := by
  unfold fn_X6_isLetter
  refine ct_iload_n (k := 0) S dX6_isLetter_0 rfl rfl ?_
  refine ct_bipush (v := 97) S dX6_isLetter_1 kB_97 ?_
  refine ct_icmp_lt (tgt := 16) S dX6_isLetter_3 (by decide) ?_ ?_
  · refine ct_iconst (v := 0) S dX6_isLetter_16 kI_0 ?_
    exact ct_zr (ty := .boolean) S rfl rfl dX6_isLetter_17
  · refine ct_iload_n (k := 0) S dX6_isLetter_6 rfl rfl ?_
    refine ct_bipush (v := 122) S dX6_isLetter_7 kB_122 ?_
    refine ct_icmp_gt (tgt := 16) S dX6_isLetter_9 (by decide) ?_ ?_
    · refine ct_iconst (v := 0) S dX6_isLetter_16 kI_0 ?_
      exact ct_zr (ty := .boolean) S rfl rfl dX6_isLetter_17
    · refine ct_iconst (v := 1) S dX6_isLetter_12 kI_1 ?_
      refine ct_goto (tgt := 17) S dX6_isLetter_13 (by decide) ?_
      exact ct_zr (ty := .boolean) S rfl rfl dX6_isLetter_17
theorem mt_X6_isLetter {l : Launch} {D : cz_D} {l0 : Int32} {h : cz_H} {oh : cz_O × cz_H} (hz : fn_X6_isLetter l0 h = some oh) : cz_M l D yX6_isLetter (ws_ yX6_isLetter cX6_isLetter 1 ((Option.some Jvm.ClassFile.FieldType.boolean))) 2 [cz_i l0] h oh := cz_met (plainFor_of_name (by decide)) (Nat.le_of_ble_eq_true rfl) hz (fun K hl S => wk_X6_isLetter S)
/-! HeldCoats$Reader.go()V -/
def dkwX6_go_17 : List UInt8 := [153, 0, 7, 5, 167, 0, 4, 6, 181, 0, 38, 177]
abbrev dktX6_go_17 : List UInt8 := dkwX6_go_17 ++ []
def dkwX6_go_16 : List UInt8 := [180, 0, 35, 100, 28, 153, 0, 8, 16, 7, 167, 0, 4, 6, 164, 0, 7, 4, 167, 0, 12, 28]
abbrev dktX6_go_16 : List UInt8 := dkwX6_go_16 ++ dktX6_go_17
def dkwX6_go_15 : List UInt8 := [167, 255, 128, 42, 25, 4, 182, 0, 61, 181, 0, 11, 42, 29, 153, 0, 25, 42, 180, 0, 28, 42]
abbrev dktX6_go_15 : List UInt8 := dkwX6_go_15 ++ dktX6_go_16
def dkwX6_go_14 : List UInt8 := [180, 0, 28, 182, 0, 31, 96, 16, 48, 100, 181, 0, 51, 42, 89, 180, 0, 28, 4, 96, 181, 0, 28]
abbrev dktX6_go_14 : List UInt8 := dkwX6_go_14 ++ dktX6_go_15
def dkwX6_go_13 : List UInt8 := [42, 180, 0, 28, 42, 180, 0, 35, 100, 6, 162, 0, 26, 42, 16, 10, 42, 180, 0, 51, 104, 42, 42]
abbrev dktX6_go_13 : List UInt8 := dkwX6_go_13 ++ dktX6_go_14
def dkwX6_go_12 : List UInt8 := [180, 0, 35, 100, 16, 7, 162, 0, 18, 25, 4, 42, 42, 180, 0, 28, 182, 0, 31, 146, 182, 0, 57, 87]
abbrev dktX6_go_12 : List UInt8 := dkwX6_go_12 ++ dktX6_go_13
def dkwX6_go_11 : List UInt8 := [180, 0, 28, 182, 0, 31, 184, 0, 41, 28, 160, 0, 7, 4, 167, 0, 4, 3, 62, 42, 180, 0, 28, 42]
abbrev dktX6_go_11 : List UInt8 := dkwX6_go_11 ++ dktX6_go_12
def dkwX6_go_10 : List UInt8 := [154, 0, 17, 42, 42, 180, 0, 28, 182, 0, 31, 184, 0, 45, 153, 0, 106, 29, 153, 0, 22, 42, 42]
abbrev dktX6_go_10 : List UInt8 := dkwX6_go_10 ++ dktX6_go_11
def dkwX6_go_9 : List UInt8 := [3, 181, 0, 51, 187, 0, 54, 89, 183, 0, 56, 58, 4, 42, 42, 180, 0, 28, 182, 0, 31, 184, 0, 41]
abbrev dktX6_go_9 : List UInt8 := dkwX6_go_9 ++ dktX6_go_10
def dkwX6_go_8 : List UInt8 := [42, 27, 181, 0, 48, 42, 89, 180, 0, 28, 4, 96, 181, 0, 28, 177, 27, 184, 0, 41, 61, 4, 62, 42]
abbrev dktX6_go_8 : List UInt8 := dkwX6_go_8 ++ dktX6_go_9
def dkwX6_go_7 : List UInt8 := [159, 0, 15, 27, 16, 40, 159, 0, 9, 27, 16, 41, 160, 0, 8, 16, 6, 167, 0, 4, 4, 181, 0, 38]
abbrev dktX6_go_7 : List UInt8 := dkwX6_go_7 ++ dktX6_go_8
def dkwX6_go_6 : List UInt8 := [160, 0, 7, 7, 167, 0, 39, 27, 16, 60, 159, 0, 27, 27, 16, 61, 159, 0, 21, 27, 16, 62]
abbrev dktX6_go_6 : List UInt8 := dkwX6_go_6 ++ dktX6_go_7
def dkwX6_go_5 : List UInt8 := [182, 0, 31, 60, 27, 184, 0, 41, 154, 0, 76, 27, 184, 0, 45, 154, 0, 69, 42, 27, 16, 59]
abbrev dktX6_go_5 : List UInt8 := dkwX6_go_5 ++ dktX6_go_6
def dkwX6_go_4 : List UInt8 := [42, 180, 0, 28, 42, 180, 0, 21, 161, 0, 9, 42, 3, 181, 0, 38, 177, 42, 42, 180, 0, 28]
abbrev dktX6_go_4 : List UInt8 := dkwX6_go_4 ++ dktX6_go_5
def dkwX6_go_3 : List UInt8 := [180, 0, 35, 42, 180, 0, 25, 161, 0, 17, 42, 42, 180, 0, 25, 181, 0, 35, 42, 8, 181, 0, 38, 177]
abbrev dktX6_go_3 : List UInt8 := dkwX6_go_3 ++ dktX6_go_4
def dkwX6_go_2 : List UInt8 := [167, 255, 209, 42, 42, 180, 0, 28, 181, 0, 35, 42, 180, 0, 21, 42, 180, 0, 25, 164, 0, 28, 42]
abbrev dktX6_go_2 : List UInt8 := dkwX6_go_2 ++ dktX6_go_3
def dkwX6_go_1 : List UInt8 := [42, 42, 180, 0, 28, 182, 0, 31, 16, 10, 160, 0, 16, 42, 89, 180, 0, 28, 4, 96, 181, 0, 28]
abbrev dktX6_go_1 : List UInt8 := dkwX6_go_1 ++ dktX6_go_2
def dkwX6_go_0 : List UInt8 := [42, 180, 0, 28, 42, 180, 0, 21, 162, 0, 42, 42, 42, 180, 0, 28, 182, 0, 31, 16, 32, 159, 0, 16]
abbrev dktX6_go_0 : List UInt8 := dkwX6_go_0 ++ dktX6_go_1
theorem dksX6_go_0 : cX6_go.data.toList.drop 0 = dktX6_go_0 := by decide +kernel
theorem dksX6_go_1 : cX6_go.data.toList.drop 24 = dktX6_go_1 := dk_seg dksX6_go_0 24 rfl rfl
theorem dksX6_go_2 : cX6_go.data.toList.drop 47 = dktX6_go_2 := dk_seg dksX6_go_1 23 rfl rfl
theorem dksX6_go_3 : cX6_go.data.toList.drop 70 = dktX6_go_3 := dk_seg dksX6_go_2 23 rfl rfl
theorem dksX6_go_4 : cX6_go.data.toList.drop 94 = dktX6_go_4 := dk_seg dksX6_go_3 24 rfl rfl
theorem dksX6_go_5 : cX6_go.data.toList.drop 116 = dktX6_go_5 := dk_seg dksX6_go_4 22 rfl rfl
theorem dksX6_go_6 : cX6_go.data.toList.drop 138 = dktX6_go_6 := dk_seg dksX6_go_5 22 rfl rfl
theorem dksX6_go_7 : cX6_go.data.toList.drop 160 = dktX6_go_7 := dk_seg dksX6_go_6 22 rfl rfl
theorem dksX6_go_8 : cX6_go.data.toList.drop 184 = dktX6_go_8 := dk_seg dksX6_go_7 24 rfl rfl
theorem dksX6_go_9 : cX6_go.data.toList.drop 208 = dktX6_go_9 := dk_seg dksX6_go_8 24 rfl rfl
theorem dksX6_go_10 : cX6_go.data.toList.drop 232 = dktX6_go_10 := dk_seg dksX6_go_9 24 rfl rfl
theorem dksX6_go_11 : cX6_go.data.toList.drop 255 = dktX6_go_11 := dk_seg dksX6_go_10 23 rfl rfl
theorem dksX6_go_12 : cX6_go.data.toList.drop 279 = dktX6_go_12 := dk_seg dksX6_go_11 24 rfl rfl
theorem dksX6_go_13 : cX6_go.data.toList.drop 303 = dktX6_go_13 := dk_seg dksX6_go_12 24 rfl rfl
theorem dksX6_go_14 : cX6_go.data.toList.drop 326 = dktX6_go_14 := dk_seg dksX6_go_13 23 rfl rfl
theorem dksX6_go_15 : cX6_go.data.toList.drop 349 = dktX6_go_15 := dk_seg dksX6_go_14 23 rfl rfl
theorem dksX6_go_16 : cX6_go.data.toList.drop 371 = dktX6_go_16 := dk_seg dksX6_go_15 22 rfl rfl
theorem dksX6_go_17 : cX6_go.data.toList.drop 393 = dktX6_go_17 := dk_seg dksX6_go_16 22 rfl rfl
theorem dX6_go_0 : decode cX6_go 0 = .ok (.aload_n 0, 1) := dk_42 (dk_at dksX6_go_0 0 rfl rfl)
theorem dX6_go_1 : decode cX6_go 1 = .ok (.getfield 28, 3) := dk_180 0 28 (dk_at dksX6_go_0 1 rfl rfl)
theorem dX6_go_4 : decode cX6_go 4 = .ok (.aload_n 0, 1) := dk_42 (dk_at dksX6_go_0 4 rfl rfl)
theorem dX6_go_5 : decode cX6_go 5 = .ok (.getfield 21, 3) := dk_180 0 21 (dk_at dksX6_go_0 5 rfl rfl)
theorem dX6_go_8 : decode cX6_go 8 = .ok (.if_icmp .ge 42, 3) := dk_162 0 42 (dk_at dksX6_go_0 8 rfl rfl)
theorem dX6_go_11 : decode cX6_go 11 = .ok (.aload_n 0, 1) := dk_42 (dk_at dksX6_go_0 11 rfl rfl)
theorem dX6_go_12 : decode cX6_go 12 = .ok (.aload_n 0, 1) := dk_42 (dk_at dksX6_go_0 12 rfl rfl)
theorem dX6_go_13 : decode cX6_go 13 = .ok (.getfield 28, 3) := dk_180 0 28 (dk_at dksX6_go_0 13 rfl rfl)
theorem dX6_go_16 : decode cX6_go 16 = .ok (.invokevirtual 31, 3) := dk_182 0 31 (dk_at dksX6_go_0 16 rfl rfl)
theorem dX6_go_19 : decode cX6_go 19 = .ok (.bipush 32, 2) := dk_16 32 (dk_at dksX6_go_0 19 rfl rfl)
theorem dX6_go_21 : decode cX6_go 21 = .ok (.if_icmp .eq 16, 3) := dk_159 0 16 (dk_at dksX6_go_0 21 rfl rfl)
theorem dX6_go_24 : decode cX6_go 24 = .ok (.aload_n 0, 1) := dk_42 (dk_at dksX6_go_1 0 rfl rfl)
theorem dX6_go_25 : decode cX6_go 25 = .ok (.aload_n 0, 1) := dk_42 (dk_at dksX6_go_1 1 rfl rfl)
theorem dX6_go_26 : decode cX6_go 26 = .ok (.getfield 28, 3) := dk_180 0 28 (dk_at dksX6_go_1 2 rfl rfl)
theorem dX6_go_29 : decode cX6_go 29 = .ok (.invokevirtual 31, 3) := dk_182 0 31 (dk_at dksX6_go_1 5 rfl rfl)
theorem dX6_go_32 : decode cX6_go 32 = .ok (.bipush 10, 2) := dk_16 10 (dk_at dksX6_go_1 8 rfl rfl)
theorem dX6_go_34 : decode cX6_go 34 = .ok (.if_icmp .ne 16, 3) := dk_160 0 16 (dk_at dksX6_go_1 10 rfl rfl)
theorem dX6_go_37 : decode cX6_go 37 = .ok (.aload_n 0, 1) := dk_42 (dk_at dksX6_go_1 13 rfl rfl)
theorem dX6_go_38 : decode cX6_go 38 = .ok (.dup, 1) := dk_89 (dk_at dksX6_go_1 14 rfl rfl)
theorem dX6_go_39 : decode cX6_go 39 = .ok (.getfield 28, 3) := dk_180 0 28 (dk_at dksX6_go_1 15 rfl rfl)
theorem dX6_go_42 : decode cX6_go 42 = .ok (.iconst 1, 1) := dk_4 (dk_at dksX6_go_1 18 rfl rfl)
theorem dX6_go_43 : decode cX6_go 43 = .ok (.iadd, 1) := dk_96 (dk_at dksX6_go_1 19 rfl rfl)
theorem dX6_go_44 : decode cX6_go 44 = .ok (.putfield 28, 3) := dk_181 0 28 (dk_at dksX6_go_1 20 rfl rfl)
theorem dX6_go_47 : decode cX6_go 47 = .ok (.goto (-47), 3) := dk_167 255 209 (dk_at dksX6_go_2 0 rfl rfl)
theorem dX6_go_50 : decode cX6_go 50 = .ok (.aload_n 0, 1) := dk_42 (dk_at dksX6_go_2 3 rfl rfl)
theorem dX6_go_51 : decode cX6_go 51 = .ok (.aload_n 0, 1) := dk_42 (dk_at dksX6_go_2 4 rfl rfl)
theorem dX6_go_52 : decode cX6_go 52 = .ok (.getfield 28, 3) := dk_180 0 28 (dk_at dksX6_go_2 5 rfl rfl)
theorem dX6_go_55 : decode cX6_go 55 = .ok (.putfield 35, 3) := dk_181 0 35 (dk_at dksX6_go_2 8 rfl rfl)
theorem dX6_go_58 : decode cX6_go 58 = .ok (.aload_n 0, 1) := dk_42 (dk_at dksX6_go_2 11 rfl rfl)
theorem dX6_go_59 : decode cX6_go 59 = .ok (.getfield 21, 3) := dk_180 0 21 (dk_at dksX6_go_2 12 rfl rfl)
theorem dX6_go_62 : decode cX6_go 62 = .ok (.aload_n 0, 1) := dk_42 (dk_at dksX6_go_2 15 rfl rfl)
theorem dX6_go_63 : decode cX6_go 63 = .ok (.getfield 25, 3) := dk_180 0 25 (dk_at dksX6_go_2 16 rfl rfl)
theorem dX6_go_66 : decode cX6_go 66 = .ok (.if_icmp .le 28, 3) := dk_164 0 28 (dk_at dksX6_go_2 19 rfl rfl)
theorem dX6_go_69 : decode cX6_go 69 = .ok (.aload_n 0, 1) := dk_42 (dk_at dksX6_go_2 22 rfl rfl)
theorem dX6_go_70 : decode cX6_go 70 = .ok (.getfield 35, 3) := dk_180 0 35 (dk_at dksX6_go_3 0 rfl rfl)
theorem dX6_go_73 : decode cX6_go 73 = .ok (.aload_n 0, 1) := dk_42 (dk_at dksX6_go_3 3 rfl rfl)
theorem dX6_go_74 : decode cX6_go 74 = .ok (.getfield 25, 3) := dk_180 0 25 (dk_at dksX6_go_3 4 rfl rfl)
theorem dX6_go_77 : decode cX6_go 77 = .ok (.if_icmp .lt 17, 3) := dk_161 0 17 (dk_at dksX6_go_3 7 rfl rfl)
theorem dX6_go_80 : decode cX6_go 80 = .ok (.aload_n 0, 1) := dk_42 (dk_at dksX6_go_3 10 rfl rfl)
theorem dX6_go_81 : decode cX6_go 81 = .ok (.aload_n 0, 1) := dk_42 (dk_at dksX6_go_3 11 rfl rfl)
theorem dX6_go_82 : decode cX6_go 82 = .ok (.getfield 25, 3) := dk_180 0 25 (dk_at dksX6_go_3 12 rfl rfl)
theorem dX6_go_85 : decode cX6_go 85 = .ok (.putfield 35, 3) := dk_181 0 35 (dk_at dksX6_go_3 15 rfl rfl)
theorem dX6_go_88 : decode cX6_go 88 = .ok (.aload_n 0, 1) := dk_42 (dk_at dksX6_go_3 18 rfl rfl)
theorem dX6_go_89 : decode cX6_go 89 = .ok (.iconst 5, 1) := dk_8 (dk_at dksX6_go_3 19 rfl rfl)
theorem dX6_go_90 : decode cX6_go 90 = .ok (.putfield 38, 3) := dk_181 0 38 (dk_at dksX6_go_3 20 rfl rfl)
theorem dX6_go_93 : decode cX6_go 93 = .ok (.return_, 1) := dk_177 (dk_at dksX6_go_3 23 rfl rfl)
theorem dX6_go_94 : decode cX6_go 94 = .ok (.aload_n 0, 1) := dk_42 (dk_at dksX6_go_4 0 rfl rfl)
theorem dX6_go_95 : decode cX6_go 95 = .ok (.getfield 28, 3) := dk_180 0 28 (dk_at dksX6_go_4 1 rfl rfl)
theorem dX6_go_98 : decode cX6_go 98 = .ok (.aload_n 0, 1) := dk_42 (dk_at dksX6_go_4 4 rfl rfl)
theorem dX6_go_99 : decode cX6_go 99 = .ok (.getfield 21, 3) := dk_180 0 21 (dk_at dksX6_go_4 5 rfl rfl)
theorem dX6_go_102 : decode cX6_go 102 = .ok (.if_icmp .lt 9, 3) := dk_161 0 9 (dk_at dksX6_go_4 8 rfl rfl)
theorem dX6_go_105 : decode cX6_go 105 = .ok (.aload_n 0, 1) := dk_42 (dk_at dksX6_go_4 11 rfl rfl)
theorem dX6_go_106 : decode cX6_go 106 = .ok (.iconst 0, 1) := dk_3 (dk_at dksX6_go_4 12 rfl rfl)
theorem dX6_go_107 : decode cX6_go 107 = .ok (.putfield 38, 3) := dk_181 0 38 (dk_at dksX6_go_4 13 rfl rfl)
theorem dX6_go_110 : decode cX6_go 110 = .ok (.return_, 1) := dk_177 (dk_at dksX6_go_4 16 rfl rfl)
theorem dX6_go_111 : decode cX6_go 111 = .ok (.aload_n 0, 1) := dk_42 (dk_at dksX6_go_4 17 rfl rfl)
theorem dX6_go_112 : decode cX6_go 112 = .ok (.aload_n 0, 1) := dk_42 (dk_at dksX6_go_4 18 rfl rfl)
theorem dX6_go_113 : decode cX6_go 113 = .ok (.getfield 28, 3) := dk_180 0 28 (dk_at dksX6_go_4 19 rfl rfl)
theorem dX6_go_116 : decode cX6_go 116 = .ok (.invokevirtual 31, 3) := dk_182 0 31 (dk_at dksX6_go_5 0 rfl rfl)
theorem dX6_go_119 : decode cX6_go 119 = .ok (.istore_n 1, 1) := dk_60 (dk_at dksX6_go_5 3 rfl rfl)
theorem dX6_go_120 : decode cX6_go 120 = .ok (.iload_n 1, 1) := dk_27 (dk_at dksX6_go_5 4 rfl rfl)
theorem dX6_go_121 : decode cX6_go 121 = .ok (.invokestatic 41, 3) := dk_184 0 41 (dk_at dksX6_go_5 5 rfl rfl)
theorem dX6_go_124 : decode cX6_go 124 = .ok (.ifCond .ne 76, 3) := dk_154 0 76 (dk_at dksX6_go_5 8 rfl rfl)
theorem dX6_go_127 : decode cX6_go 127 = .ok (.iload_n 1, 1) := dk_27 (dk_at dksX6_go_5 11 rfl rfl)
theorem dX6_go_128 : decode cX6_go 128 = .ok (.invokestatic 45, 3) := dk_184 0 45 (dk_at dksX6_go_5 12 rfl rfl)
theorem dX6_go_131 : decode cX6_go 131 = .ok (.ifCond .ne 69, 3) := dk_154 0 69 (dk_at dksX6_go_5 15 rfl rfl)
theorem dX6_go_134 : decode cX6_go 134 = .ok (.aload_n 0, 1) := dk_42 (dk_at dksX6_go_5 18 rfl rfl)
theorem dX6_go_135 : decode cX6_go 135 = .ok (.iload_n 1, 1) := dk_27 (dk_at dksX6_go_5 19 rfl rfl)
theorem dX6_go_136 : decode cX6_go 136 = .ok (.bipush 59, 2) := dk_16 59 (dk_at dksX6_go_5 20 rfl rfl)
theorem dX6_go_138 : decode cX6_go 138 = .ok (.if_icmp .ne 7, 3) := dk_160 0 7 (dk_at dksX6_go_6 0 rfl rfl)
theorem dX6_go_141 : decode cX6_go 141 = .ok (.iconst 4, 1) := dk_7 (dk_at dksX6_go_6 3 rfl rfl)
theorem dX6_go_142 : decode cX6_go 142 = .ok (.goto 39, 3) := dk_167 0 39 (dk_at dksX6_go_6 4 rfl rfl)
theorem dX6_go_145 : decode cX6_go 145 = .ok (.iload_n 1, 1) := dk_27 (dk_at dksX6_go_6 7 rfl rfl)
theorem dX6_go_146 : decode cX6_go 146 = .ok (.bipush 60, 2) := dk_16 60 (dk_at dksX6_go_6 8 rfl rfl)
theorem dX6_go_148 : decode cX6_go 148 = .ok (.if_icmp .eq 27, 3) := dk_159 0 27 (dk_at dksX6_go_6 10 rfl rfl)
theorem dX6_go_151 : decode cX6_go 151 = .ok (.iload_n 1, 1) := dk_27 (dk_at dksX6_go_6 13 rfl rfl)
theorem dX6_go_152 : decode cX6_go 152 = .ok (.bipush 61, 2) := dk_16 61 (dk_at dksX6_go_6 14 rfl rfl)
theorem dX6_go_154 : decode cX6_go 154 = .ok (.if_icmp .eq 21, 3) := dk_159 0 21 (dk_at dksX6_go_6 16 rfl rfl)
theorem dX6_go_157 : decode cX6_go 157 = .ok (.iload_n 1, 1) := dk_27 (dk_at dksX6_go_6 19 rfl rfl)
theorem dX6_go_158 : decode cX6_go 158 = .ok (.bipush 62, 2) := dk_16 62 (dk_at dksX6_go_6 20 rfl rfl)
theorem dX6_go_160 : decode cX6_go 160 = .ok (.if_icmp .eq 15, 3) := dk_159 0 15 (dk_at dksX6_go_7 0 rfl rfl)
theorem dX6_go_163 : decode cX6_go 163 = .ok (.iload_n 1, 1) := dk_27 (dk_at dksX6_go_7 3 rfl rfl)
theorem dX6_go_164 : decode cX6_go 164 = .ok (.bipush 40, 2) := dk_16 40 (dk_at dksX6_go_7 4 rfl rfl)
theorem dX6_go_166 : decode cX6_go 166 = .ok (.if_icmp .eq 9, 3) := dk_159 0 9 (dk_at dksX6_go_7 6 rfl rfl)
theorem dX6_go_169 : decode cX6_go 169 = .ok (.iload_n 1, 1) := dk_27 (dk_at dksX6_go_7 9 rfl rfl)
theorem dX6_go_170 : decode cX6_go 170 = .ok (.bipush 41, 2) := dk_16 41 (dk_at dksX6_go_7 10 rfl rfl)
theorem dX6_go_172 : decode cX6_go 172 = .ok (.if_icmp .ne 8, 3) := dk_160 0 8 (dk_at dksX6_go_7 12 rfl rfl)
theorem dX6_go_175 : decode cX6_go 175 = .ok (.bipush 6, 2) := dk_16 6 (dk_at dksX6_go_7 15 rfl rfl)
theorem dX6_go_177 : decode cX6_go 177 = .ok (.goto 4, 3) := dk_167 0 4 (dk_at dksX6_go_7 17 rfl rfl)
theorem dX6_go_180 : decode cX6_go 180 = .ok (.iconst 1, 1) := dk_4 (dk_at dksX6_go_7 20 rfl rfl)
theorem dX6_go_181 : decode cX6_go 181 = .ok (.putfield 38, 3) := dk_181 0 38 (dk_at dksX6_go_7 21 rfl rfl)
theorem dX6_go_184 : decode cX6_go 184 = .ok (.aload_n 0, 1) := dk_42 (dk_at dksX6_go_8 0 rfl rfl)
theorem dX6_go_185 : decode cX6_go 185 = .ok (.iload_n 1, 1) := dk_27 (dk_at dksX6_go_8 1 rfl rfl)
theorem dX6_go_186 : decode cX6_go 186 = .ok (.putfield 48, 3) := dk_181 0 48 (dk_at dksX6_go_8 2 rfl rfl)
theorem dX6_go_189 : decode cX6_go 189 = .ok (.aload_n 0, 1) := dk_42 (dk_at dksX6_go_8 5 rfl rfl)
theorem dX6_go_190 : decode cX6_go 190 = .ok (.dup, 1) := dk_89 (dk_at dksX6_go_8 6 rfl rfl)
theorem dX6_go_191 : decode cX6_go 191 = .ok (.getfield 28, 3) := dk_180 0 28 (dk_at dksX6_go_8 7 rfl rfl)
theorem dX6_go_194 : decode cX6_go 194 = .ok (.iconst 1, 1) := dk_4 (dk_at dksX6_go_8 10 rfl rfl)
theorem dX6_go_195 : decode cX6_go 195 = .ok (.iadd, 1) := dk_96 (dk_at dksX6_go_8 11 rfl rfl)
theorem dX6_go_196 : decode cX6_go 196 = .ok (.putfield 28, 3) := dk_181 0 28 (dk_at dksX6_go_8 12 rfl rfl)
theorem dX6_go_199 : decode cX6_go 199 = .ok (.return_, 1) := dk_177 (dk_at dksX6_go_8 15 rfl rfl)
theorem dX6_go_200 : decode cX6_go 200 = .ok (.iload_n 1, 1) := dk_27 (dk_at dksX6_go_8 16 rfl rfl)
theorem dX6_go_201 : decode cX6_go 201 = .ok (.invokestatic 41, 3) := dk_184 0 41 (dk_at dksX6_go_8 17 rfl rfl)
theorem dX6_go_204 : decode cX6_go 204 = .ok (.istore_n 2, 1) := dk_61 (dk_at dksX6_go_8 20 rfl rfl)
theorem dX6_go_205 : decode cX6_go 205 = .ok (.iconst 1, 1) := dk_4 (dk_at dksX6_go_8 21 rfl rfl)
theorem dX6_go_206 : decode cX6_go 206 = .ok (.istore_n 3, 1) := dk_62 (dk_at dksX6_go_8 22 rfl rfl)
theorem dX6_go_207 : decode cX6_go 207 = .ok (.aload_n 0, 1) := dk_42 (dk_at dksX6_go_8 23 rfl rfl)
theorem dX6_go_208 : decode cX6_go 208 = .ok (.iconst 0, 1) := dk_3 (dk_at dksX6_go_9 0 rfl rfl)
theorem dX6_go_209 : decode cX6_go 209 = .ok (.putfield 51, 3) := dk_181 0 51 (dk_at dksX6_go_9 1 rfl rfl)
theorem dX6_go_212 : decode cX6_go 212 = .ok (.new 54, 3) := dk_187 0 54 (dk_at dksX6_go_9 4 rfl rfl)
theorem dX6_go_215 : decode cX6_go 215 = .ok (.dup, 1) := dk_89 (dk_at dksX6_go_9 7 rfl rfl)
theorem dX6_go_216 : decode cX6_go 216 = .ok (.invokespecial 56, 3) := dk_183 0 56 (dk_at dksX6_go_9 8 rfl rfl)
theorem dX6_go_219 : decode cX6_go 219 = .ok (.astore 4, 2) := dk_58 4 (dk_at dksX6_go_9 11 rfl rfl)
theorem dX6_go_221 : decode cX6_go 221 = .ok (.aload_n 0, 1) := dk_42 (dk_at dksX6_go_9 13 rfl rfl)
theorem dX6_go_222 : decode cX6_go 222 = .ok (.aload_n 0, 1) := dk_42 (dk_at dksX6_go_9 14 rfl rfl)
theorem dX6_go_223 : decode cX6_go 223 = .ok (.getfield 28, 3) := dk_180 0 28 (dk_at dksX6_go_9 15 rfl rfl)
theorem dX6_go_226 : decode cX6_go 226 = .ok (.invokevirtual 31, 3) := dk_182 0 31 (dk_at dksX6_go_9 18 rfl rfl)
theorem dX6_go_229 : decode cX6_go 229 = .ok (.invokestatic 41, 3) := dk_184 0 41 (dk_at dksX6_go_9 21 rfl rfl)
theorem dX6_go_232 : decode cX6_go 232 = .ok (.ifCond .ne 17, 3) := dk_154 0 17 (dk_at dksX6_go_10 0 rfl rfl)
theorem dX6_go_235 : decode cX6_go 235 = .ok (.aload_n 0, 1) := dk_42 (dk_at dksX6_go_10 3 rfl rfl)
theorem dX6_go_236 : decode cX6_go 236 = .ok (.aload_n 0, 1) := dk_42 (dk_at dksX6_go_10 4 rfl rfl)
theorem dX6_go_237 : decode cX6_go 237 = .ok (.getfield 28, 3) := dk_180 0 28 (dk_at dksX6_go_10 5 rfl rfl)
theorem dX6_go_240 : decode cX6_go 240 = .ok (.invokevirtual 31, 3) := dk_182 0 31 (dk_at dksX6_go_10 8 rfl rfl)
theorem dX6_go_243 : decode cX6_go 243 = .ok (.invokestatic 45, 3) := dk_184 0 45 (dk_at dksX6_go_10 11 rfl rfl)
theorem dX6_go_246 : decode cX6_go 246 = .ok (.ifCond .eq 106, 3) := dk_153 0 106 (dk_at dksX6_go_10 14 rfl rfl)
theorem dX6_go_249 : decode cX6_go 249 = .ok (.iload_n 3, 1) := dk_29 (dk_at dksX6_go_10 17 rfl rfl)
theorem dX6_go_250 : decode cX6_go 250 = .ok (.ifCond .eq 22, 3) := dk_153 0 22 (dk_at dksX6_go_10 18 rfl rfl)
theorem dX6_go_253 : decode cX6_go 253 = .ok (.aload_n 0, 1) := dk_42 (dk_at dksX6_go_10 21 rfl rfl)
theorem dX6_go_254 : decode cX6_go 254 = .ok (.aload_n 0, 1) := dk_42 (dk_at dksX6_go_10 22 rfl rfl)
theorem dX6_go_255 : decode cX6_go 255 = .ok (.getfield 28, 3) := dk_180 0 28 (dk_at dksX6_go_11 0 rfl rfl)
theorem dX6_go_258 : decode cX6_go 258 = .ok (.invokevirtual 31, 3) := dk_182 0 31 (dk_at dksX6_go_11 3 rfl rfl)
theorem dX6_go_261 : decode cX6_go 261 = .ok (.invokestatic 41, 3) := dk_184 0 41 (dk_at dksX6_go_11 6 rfl rfl)
theorem dX6_go_264 : decode cX6_go 264 = .ok (.iload_n 2, 1) := dk_28 (dk_at dksX6_go_11 9 rfl rfl)
theorem dX6_go_265 : decode cX6_go 265 = .ok (.if_icmp .ne 7, 3) := dk_160 0 7 (dk_at dksX6_go_11 10 rfl rfl)
theorem dX6_go_268 : decode cX6_go 268 = .ok (.iconst 1, 1) := dk_4 (dk_at dksX6_go_11 13 rfl rfl)
theorem dX6_go_269 : decode cX6_go 269 = .ok (.goto 4, 3) := dk_167 0 4 (dk_at dksX6_go_11 14 rfl rfl)
theorem dX6_go_272 : decode cX6_go 272 = .ok (.iconst 0, 1) := dk_3 (dk_at dksX6_go_11 17 rfl rfl)
theorem dX6_go_273 : decode cX6_go 273 = .ok (.istore_n 3, 1) := dk_62 (dk_at dksX6_go_11 18 rfl rfl)
theorem dX6_go_274 : decode cX6_go 274 = .ok (.aload_n 0, 1) := dk_42 (dk_at dksX6_go_11 19 rfl rfl)
theorem dX6_go_275 : decode cX6_go 275 = .ok (.getfield 28, 3) := dk_180 0 28 (dk_at dksX6_go_11 20 rfl rfl)
theorem dX6_go_278 : decode cX6_go 278 = .ok (.aload_n 0, 1) := dk_42 (dk_at dksX6_go_11 23 rfl rfl)
theorem dX6_go_279 : decode cX6_go 279 = .ok (.getfield 35, 3) := dk_180 0 35 (dk_at dksX6_go_12 0 rfl rfl)
theorem dX6_go_282 : decode cX6_go 282 = .ok (.isub, 1) := dk_100 (dk_at dksX6_go_12 3 rfl rfl)
theorem dX6_go_283 : decode cX6_go 283 = .ok (.bipush 7, 2) := dk_16 7 (dk_at dksX6_go_12 4 rfl rfl)
theorem dX6_go_285 : decode cX6_go 285 = .ok (.if_icmp .ge 18, 3) := dk_162 0 18 (dk_at dksX6_go_12 6 rfl rfl)
theorem dX6_go_288 : decode cX6_go 288 = .ok (.aload 4, 2) := dk_25 4 (dk_at dksX6_go_12 9 rfl rfl)
theorem dX6_go_290 : decode cX6_go 290 = .ok (.aload_n 0, 1) := dk_42 (dk_at dksX6_go_12 11 rfl rfl)
theorem dX6_go_291 : decode cX6_go 291 = .ok (.aload_n 0, 1) := dk_42 (dk_at dksX6_go_12 12 rfl rfl)
theorem dX6_go_292 : decode cX6_go 292 = .ok (.getfield 28, 3) := dk_180 0 28 (dk_at dksX6_go_12 13 rfl rfl)
theorem dX6_go_295 : decode cX6_go 295 = .ok (.invokevirtual 31, 3) := dk_182 0 31 (dk_at dksX6_go_12 16 rfl rfl)
theorem dX6_go_298 : decode cX6_go 298 = .ok (.i2c, 1) := dk_146 (dk_at dksX6_go_12 19 rfl rfl)
theorem dX6_go_299 : decode cX6_go 299 = .ok (.invokevirtual 57, 3) := dk_182 0 57 (dk_at dksX6_go_12 20 rfl rfl)
theorem dX6_go_302 : decode cX6_go 302 = .ok (.pop, 1) := dk_87 (dk_at dksX6_go_12 23 rfl rfl)
theorem dX6_go_303 : decode cX6_go 303 = .ok (.aload_n 0, 1) := dk_42 (dk_at dksX6_go_13 0 rfl rfl)
theorem dX6_go_304 : decode cX6_go 304 = .ok (.getfield 28, 3) := dk_180 0 28 (dk_at dksX6_go_13 1 rfl rfl)
theorem dX6_go_307 : decode cX6_go 307 = .ok (.aload_n 0, 1) := dk_42 (dk_at dksX6_go_13 4 rfl rfl)
theorem dX6_go_308 : decode cX6_go 308 = .ok (.getfield 35, 3) := dk_180 0 35 (dk_at dksX6_go_13 5 rfl rfl)
theorem dX6_go_311 : decode cX6_go 311 = .ok (.isub, 1) := dk_100 (dk_at dksX6_go_13 8 rfl rfl)
theorem dX6_go_312 : decode cX6_go 312 = .ok (.iconst 3, 1) := dk_6 (dk_at dksX6_go_13 9 rfl rfl)
theorem dX6_go_313 : decode cX6_go 313 = .ok (.if_icmp .ge 26, 3) := dk_162 0 26 (dk_at dksX6_go_13 10 rfl rfl)
theorem dX6_go_316 : decode cX6_go 316 = .ok (.aload_n 0, 1) := dk_42 (dk_at dksX6_go_13 13 rfl rfl)
theorem dX6_go_317 : decode cX6_go 317 = .ok (.bipush 10, 2) := dk_16 10 (dk_at dksX6_go_13 14 rfl rfl)
theorem dX6_go_319 : decode cX6_go 319 = .ok (.aload_n 0, 1) := dk_42 (dk_at dksX6_go_13 16 rfl rfl)
theorem dX6_go_320 : decode cX6_go 320 = .ok (.getfield 51, 3) := dk_180 0 51 (dk_at dksX6_go_13 17 rfl rfl)
theorem dX6_go_323 : decode cX6_go 323 = .ok (.imul, 1) := dk_104 (dk_at dksX6_go_13 20 rfl rfl)
theorem dX6_go_324 : decode cX6_go 324 = .ok (.aload_n 0, 1) := dk_42 (dk_at dksX6_go_13 21 rfl rfl)
theorem dX6_go_325 : decode cX6_go 325 = .ok (.aload_n 0, 1) := dk_42 (dk_at dksX6_go_13 22 rfl rfl)
theorem dX6_go_326 : decode cX6_go 326 = .ok (.getfield 28, 3) := dk_180 0 28 (dk_at dksX6_go_14 0 rfl rfl)
theorem dX6_go_329 : decode cX6_go 329 = .ok (.invokevirtual 31, 3) := dk_182 0 31 (dk_at dksX6_go_14 3 rfl rfl)
theorem dX6_go_332 : decode cX6_go 332 = .ok (.iadd, 1) := dk_96 (dk_at dksX6_go_14 6 rfl rfl)
theorem dX6_go_333 : decode cX6_go 333 = .ok (.bipush 48, 2) := dk_16 48 (dk_at dksX6_go_14 7 rfl rfl)
theorem dX6_go_335 : decode cX6_go 335 = .ok (.isub, 1) := dk_100 (dk_at dksX6_go_14 9 rfl rfl)
theorem dX6_go_336 : decode cX6_go 336 = .ok (.putfield 51, 3) := dk_181 0 51 (dk_at dksX6_go_14 10 rfl rfl)
theorem dX6_go_339 : decode cX6_go 339 = .ok (.aload_n 0, 1) := dk_42 (dk_at dksX6_go_14 13 rfl rfl)
theorem dX6_go_340 : decode cX6_go 340 = .ok (.dup, 1) := dk_89 (dk_at dksX6_go_14 14 rfl rfl)
theorem dX6_go_341 : decode cX6_go 341 = .ok (.getfield 28, 3) := dk_180 0 28 (dk_at dksX6_go_14 15 rfl rfl)
theorem dX6_go_344 : decode cX6_go 344 = .ok (.iconst 1, 1) := dk_4 (dk_at dksX6_go_14 18 rfl rfl)
theorem dX6_go_345 : decode cX6_go 345 = .ok (.iadd, 1) := dk_96 (dk_at dksX6_go_14 19 rfl rfl)
theorem dX6_go_346 : decode cX6_go 346 = .ok (.putfield 28, 3) := dk_181 0 28 (dk_at dksX6_go_14 20 rfl rfl)
theorem dX6_go_349 : decode cX6_go 349 = .ok (.goto (-128), 3) := dk_167 255 128 (dk_at dksX6_go_15 0 rfl rfl)
theorem dX6_go_352 : decode cX6_go 352 = .ok (.aload_n 0, 1) := dk_42 (dk_at dksX6_go_15 3 rfl rfl)
theorem dX6_go_353 : decode cX6_go 353 = .ok (.aload 4, 2) := dk_25 4 (dk_at dksX6_go_15 4 rfl rfl)
theorem dX6_go_355 : decode cX6_go 355 = .ok (.invokevirtual 61, 3) := dk_182 0 61 (dk_at dksX6_go_15 6 rfl rfl)
theorem dX6_go_358 : decode cX6_go 358 = .ok (.putfield 11, 3) := dk_181 0 11 (dk_at dksX6_go_15 9 rfl rfl)
theorem dX6_go_361 : decode cX6_go 361 = .ok (.aload_n 0, 1) := dk_42 (dk_at dksX6_go_15 12 rfl rfl)
theorem dX6_go_362 : decode cX6_go 362 = .ok (.iload_n 3, 1) := dk_29 (dk_at dksX6_go_15 13 rfl rfl)
theorem dX6_go_363 : decode cX6_go 363 = .ok (.ifCond .eq 25, 3) := dk_153 0 25 (dk_at dksX6_go_15 14 rfl rfl)
theorem dX6_go_366 : decode cX6_go 366 = .ok (.aload_n 0, 1) := dk_42 (dk_at dksX6_go_15 17 rfl rfl)
theorem dX6_go_367 : decode cX6_go 367 = .ok (.getfield 28, 3) := dk_180 0 28 (dk_at dksX6_go_15 18 rfl rfl)
theorem dX6_go_370 : decode cX6_go 370 = .ok (.aload_n 0, 1) := dk_42 (dk_at dksX6_go_15 21 rfl rfl)
theorem dX6_go_371 : decode cX6_go 371 = .ok (.getfield 35, 3) := dk_180 0 35 (dk_at dksX6_go_16 0 rfl rfl)
theorem dX6_go_374 : decode cX6_go 374 = .ok (.isub, 1) := dk_100 (dk_at dksX6_go_16 3 rfl rfl)
theorem dX6_go_375 : decode cX6_go 375 = .ok (.iload_n 2, 1) := dk_28 (dk_at dksX6_go_16 4 rfl rfl)
theorem dX6_go_376 : decode cX6_go 376 = .ok (.ifCond .eq 8, 3) := dk_153 0 8 (dk_at dksX6_go_16 5 rfl rfl)
theorem dX6_go_379 : decode cX6_go 379 = .ok (.bipush 7, 2) := dk_16 7 (dk_at dksX6_go_16 8 rfl rfl)
theorem dX6_go_381 : decode cX6_go 381 = .ok (.goto 4, 3) := dk_167 0 4 (dk_at dksX6_go_16 10 rfl rfl)
theorem dX6_go_384 : decode cX6_go 384 = .ok (.iconst 3, 1) := dk_6 (dk_at dksX6_go_16 13 rfl rfl)
theorem dX6_go_385 : decode cX6_go 385 = .ok (.if_icmp .le 7, 3) := dk_164 0 7 (dk_at dksX6_go_16 14 rfl rfl)
theorem dX6_go_388 : decode cX6_go 388 = .ok (.iconst 1, 1) := dk_4 (dk_at dksX6_go_16 17 rfl rfl)
theorem dX6_go_389 : decode cX6_go 389 = .ok (.goto 12, 3) := dk_167 0 12 (dk_at dksX6_go_16 18 rfl rfl)
theorem dX6_go_392 : decode cX6_go 392 = .ok (.iload_n 2, 1) := dk_28 (dk_at dksX6_go_16 21 rfl rfl)
theorem dX6_go_393 : decode cX6_go 393 = .ok (.ifCond .eq 7, 3) := dk_153 0 7 (dk_at dksX6_go_17 0 rfl rfl)
theorem dX6_go_396 : decode cX6_go 396 = .ok (.iconst 2, 1) := dk_5 (dk_at dksX6_go_17 3 rfl rfl)
theorem dX6_go_397 : decode cX6_go 397 = .ok (.goto 4, 3) := dk_167 0 4 (dk_at dksX6_go_17 4 rfl rfl)
theorem dX6_go_400 : decode cX6_go 400 = .ok (.iconst 3, 1) := dk_6 (dk_at dksX6_go_17 7 rfl rfl)
theorem dX6_go_401 : decode cX6_go 401 = .ok (.putfield 38, 3) := dk_181 0 38 (dk_at dksX6_go_17 8 rfl rfl)
theorem dX6_go_404 : decode cX6_go 404 = .ok (.return_, 1) := dk_177 (dk_at dksX6_go_17 11 rfl rfl)
theorem fw_X6_28 : cz_FW "HeldCoats$Reader" 28 [(6, 3), (16, 3), (18, 3)] "I" := ⟨"HeldCoats$Reader", "to", Or.inl q473, List.forall_mem_cons.mpr ⟨⟨RX7, TX7, 11, rfl, by decide, rfl, rfl, Or.inl rfl⟩, List.forall_mem_cons.mpr ⟨⟨RX19, TX19, 11, rfl, by decide, rfl, rfl, Or.inl rfl⟩, List.forall_mem_cons.mpr ⟨⟨RX21, TX21, 12, rfl, by decide, rfl, rfl, Or.inl rfl⟩, fun _ h => absurd h List.not_mem_nil⟩⟩⟩, by decide⟩
theorem fw_X6_35 : cz_FW "HeldCoats$Reader" 35 [(6, 5), (16, 5), (18, 5)] "I" := ⟨"HeldCoats$Reader", "from", Or.inl q481, List.forall_mem_cons.mpr ⟨⟨RX7, TX7, 11, rfl, by decide, rfl, rfl, Or.inl rfl⟩, List.forall_mem_cons.mpr ⟨⟨RX19, TX19, 11, rfl, by decide, rfl, rfl, Or.inl rfl⟩, List.forall_mem_cons.mpr ⟨⟨RX21, TX21, 12, rfl, by decide, rfl, rfl, Or.inl rfl⟩, fun _ h => absurd h List.not_mem_nil⟩⟩⟩, by decide⟩
theorem fw_X6_51 : cz_FW "HeldCoats$Reader" 51 [(6, 6), (16, 6), (18, 6)] "I" := ⟨"HeldCoats$Reader", "number", Or.inl q482, List.forall_mem_cons.mpr ⟨⟨RX7, TX7, 11, rfl, by decide, rfl, rfl, Or.inl rfl⟩, List.forall_mem_cons.mpr ⟨⟨RX19, TX19, 11, rfl, by decide, rfl, rfl, Or.inl rfl⟩, List.forall_mem_cons.mpr ⟨⟨RX21, TX21, 12, rfl, by decide, rfl, rfl, Or.inl rfl⟩, fun _ h => absurd h List.not_mem_nil⟩⟩⟩, by decide⟩
theorem md_X6_byteAt : cz_md yX6_byteAt 2 (ws_ yX6_byteAt cX6_byteAt 2 ((Option.some Jvm.ClassFile.FieldType.int))) 1 := ⟨cz_ws_code q525, q124, ⟨by decide, by decide, by decide +kernel⟩, by decide⟩
theorem fp_X6_m_6_3_16_3_18_3 {nm : String} : cz_FP "HeldCoats$Reader" nm [(6, 3), (16, 3), (18, 3)] := List.forall_mem_cons.mpr ⟨⟨RX7, TX7, 11, rfl, Or.inl rfl⟩, List.forall_mem_cons.mpr ⟨⟨RX19, TX19, 11, rfl, Or.inl rfl⟩, List.forall_mem_cons.mpr ⟨⟨RX21, TX21, 12, rfl, Or.inl rfl⟩, fun _ h => absurd h List.not_mem_nil⟩⟩⟩
theorem fp_X6_m_6_5_16_5_18_5 {nm : String} : cz_FP "HeldCoats$Reader" nm [(6, 5), (16, 5), (18, 5)] := List.forall_mem_cons.mpr ⟨⟨RX7, TX7, 11, rfl, Or.inl rfl⟩, List.forall_mem_cons.mpr ⟨⟨RX19, TX19, 11, rfl, Or.inl rfl⟩, List.forall_mem_cons.mpr ⟨⟨RX21, TX21, 12, rfl, Or.inl rfl⟩, fun _ h => absurd h List.not_mem_nil⟩⟩⟩
theorem md_X6_isLetter : cz_md yX6_isLetter 1 (ws_ yX6_isLetter cX6_isLetter 1 ((Option.some Jvm.ClassFile.FieldType.boolean))) 1 := ⟨cz_ws_code q528, q124, ⟨by decide, by decide, by decide +kernel⟩, by decide⟩
theorem fp_X6_m_6_6_16_6_18_6 {nm : String} : cz_FP "HeldCoats$Reader" nm [(6, 6), (16, 6), (18, 6)] := List.forall_mem_cons.mpr ⟨⟨RX7, TX7, 11, rfl, Or.inl rfl⟩, List.forall_mem_cons.mpr ⟨⟨RX19, TX19, 11, rfl, Or.inl rfl⟩, List.forall_mem_cons.mpr ⟨⟨RX21, TX21, 12, rfl, Or.inl rfl⟩, fun _ h => absurd h List.not_mem_nil⟩⟩⟩
theorem nh_java_lang_StringBuilder__init____V : cz_nh ⟨"java/lang/StringBuilder", "<init>", "()V"⟩ 0 := ⟨by decide, by decide, by decide +kernel⟩
theorem se_java_lang_StringBuilder_append__C_Ljava_lang_StringBuilder__java_lang_StringBuilder : ∀ c ∈ ([7] : List Nat), ∃ q : vw_C, cz_cl[c]? = some q ∧ Cond.selects q.1 (⟨"java/lang/StringBuilder", "append", "(C)Ljava/lang/StringBuilder;"⟩ : MethodName) (⟨"java/lang/StringBuilder", "append", "(C)Ljava/lang/StringBuilder;"⟩ : MethodName) ∈ lw_all := List.forall_mem_cons.mpr ⟨⟨_, cz_cl7, q565⟩, fun _ h => absurd h List.not_mem_nil⟩
theorem md_J7_append : cz_md yJ7_append 2 (ws_ yJ7_append cJ7_append 2 ((Option.some (Jvm.ClassFile.FieldType.object "java/lang/StringBuilder")))) 1 := ⟨cz_ws_code q566, q127, ⟨by decide, by decide, by decide +kernel⟩, by decide⟩
theorem md_X6_isDigit : cz_md yX6_isDigit 1 (ws_ yX6_isDigit cX6_isDigit 1 ((Option.some Jvm.ClassFile.FieldType.boolean))) 1 := ⟨cz_ws_code q531, q124, ⟨by decide, by decide, by decide +kernel⟩, by decide⟩
theorem se_java_lang_StringBuilder_toString___Ljava_lang_String__java_lang_StringBuilder : ∀ c ∈ ([7] : List Nat), ∃ q : vw_C, cz_cl[c]? = some q ∧ Cond.selects q.1 (⟨"java/lang/StringBuilder", "toString", "()Ljava/lang/String;"⟩ : MethodName) (⟨"java/lang/StringBuilder", "toString", "()Ljava/lang/String;"⟩ : MethodName) ∈ lw_all := List.forall_mem_cons.mpr ⟨⟨_, cz_cl7, q658⟩, fun _ h => absurd h List.not_mem_nil⟩
theorem md_J7_toString : cz_md yJ7_toString 1 (ws_ yJ7_toString cJ7_toString 1 ((Option.some (Jvm.ClassFile.FieldType.object "java/lang/String")))) 0 := ⟨cz_ws_code q659, q127, ⟨by decide, by decide, by decide +kernel⟩, by decide⟩
theorem fp_X6_m_6_8_16_8_18_8 {nm : String} : cz_FP "HeldCoats$Reader" nm [(6, 8), (16, 8), (18, 8)] := List.forall_mem_cons.mpr ⟨⟨RX7, TX7, 11, rfl, Or.inl rfl⟩, List.forall_mem_cons.mpr ⟨⟨RX19, TX19, 11, rfl, Or.inl rfl⟩, List.forall_mem_cons.mpr ⟨⟨RX21, TX21, 12, rfl, Or.inl rfl⟩, fun _ h => absurd h List.not_mem_nil⟩⟩⟩
theorem fw_X6_38 : cz_FW "HeldCoats$Reader" 38 [(6, 4), (16, 4), (18, 4)] "I" := ⟨"HeldCoats$Reader", "kind", Or.inl q480, List.forall_mem_cons.mpr ⟨⟨RX7, TX7, 11, rfl, by decide, rfl, rfl, Or.inl rfl⟩, List.forall_mem_cons.mpr ⟨⟨RX19, TX19, 11, rfl, by decide, rfl, rfl, Or.inl rfl⟩, List.forall_mem_cons.mpr ⟨⟨RX21, TX21, 12, rfl, by decide, rfl, rfl, Or.inl rfl⟩, fun _ h => absurd h List.not_mem_nil⟩⟩⟩, by decide⟩
theorem fp_X6_m_6_4_16_4_18_4 {nm : String} : cz_FP "HeldCoats$Reader" nm [(6, 4), (16, 4), (18, 4)] := List.forall_mem_cons.mpr ⟨⟨RX7, TX7, 11, rfl, Or.inl rfl⟩, List.forall_mem_cons.mpr ⟨⟨RX19, TX19, 11, rfl, Or.inl rfl⟩, List.forall_mem_cons.mpr ⟨⟨RX21, TX21, 12, rfl, Or.inl rfl⟩, fun _ h => absurd h List.not_mem_nil⟩⟩⟩
theorem fw_X6_48 : cz_FW "HeldCoats$Reader" 48 [(6, 7), (16, 7), (18, 7)] "I" := ⟨"HeldCoats$Reader", "sign", Or.inl q483, List.forall_mem_cons.mpr ⟨⟨RX7, TX7, 11, rfl, by decide, rfl, rfl, Or.inl rfl⟩, List.forall_mem_cons.mpr ⟨⟨RX19, TX19, 11, rfl, by decide, rfl, rfl, Or.inl rfl⟩, List.forall_mem_cons.mpr ⟨⟨RX21, TX21, 12, rfl, by decide, rfl, rfl, Or.inl rfl⟩, fun _ h => absurd h List.not_mem_nil⟩⟩⟩, by decide⟩
theorem fp_X6_m_6_7_16_7_18_7 {nm : String} : cz_FP "HeldCoats$Reader" nm [(6, 7), (16, 7), (18, 7)] := List.forall_mem_cons.mpr ⟨⟨RX7, TX7, 11, rfl, Or.inl rfl⟩, List.forall_mem_cons.mpr ⟨⟨RX19, TX19, 11, rfl, Or.inl rfl⟩, List.forall_mem_cons.mpr ⟨⟨RX21, TX21, 12, rfl, Or.inl rfl⟩, fun _ h => absurd h List.not_mem_nil⟩⟩⟩
set_option maxHeartbeats 4000000 in
set_option maxRecDepth 100000 in
noncomputable def fn_X6_go_0 (l0 : Option Nat) (k0 : cz_H → cz_Z) : Nat → cz_H → cz_Z
  | 0, _ => none
  | n + 1, h => cz_getI h l0 [(6, 3), (16, 3), (18, 3)] (fun x1 => cz_getI h l0 [(6, 1), (16, 1), (18, 1)] (fun x2 => (if x2 ≤ x1 then k0 h else cz_getI h l0 [(6, 3), (16, 3), (18, 3)] (fun x3 => cz_rc h l0 [6, 16, 18] (cz_cI (fn_X6_byteAt l0 x3 h) (fun x11 h10 => cz_jn (fun (h12 : cz_H) => cz_getI h12 l0 [(6, 3), (16, 3), (18, 3)] (fun x13 => cz_put h12 l0 [(6, 3), (16, 3), (18, 3)] (cz_i (x13 + 1)) (fun h14 => fn_X6_go_0 l0 k0 n h14))) (fun j15 => (if x11 = 32 then j15 h10 else cz_getI h10 l0 [(6, 3), (16, 3), (18, 3)] (fun x16 => cz_rc h10 l0 [6, 16, 18] (cz_cI (fn_X6_byteAt l0 x16 h10) (fun x24 h23 => (if x24 = 10 then j15 h23 else k0 h23))))))))))))
set_option maxHeartbeats 4000000 in
set_option maxRecDepth 100000 in
theorem wk_X6_go_0 {K : cz_K} {D : cz_D} {h0 : cz_H} {oh : cz_O × cz_H} {l0 : Option Nat} {k0 : cz_H → cz_Z} (S : cz_S K D h0 cX6_go 5 "HeldCoats$Reader" ((Option.none : Option Jvm.ClassFile.FieldType)) "go" ([])) (hk0 : ∀ (h : cz_H), cz_T K D 8 h0 oh 5 (k0 h) h 50 [(0, cz_r l0)] []) : ∀ (n : Nat) (h : cz_H), cz_T K D 8 h0 oh 5 (fn_X6_go_0 l0 k0 n h) h 0 [(0, cz_r l0)] [] := by
  intro n
  induction n with
  | zero => intros; exact ct_none
  | succ n ih =>
    intro h
    rw [fn_X6_go_0]
    refine ct_aload_n (k := 0) S dX6_go_0 rfl rfl ?_
    refine ct_getI S fw_X6_28 dX6_go_1 (fun x1 => ?_)
    refine ct_aload_n (k := 0) S dX6_go_4 rfl rfl ?_
    refine ct_getI S fw_X6_21 dX6_go_5 (fun x2 => ?_)
    refine ct_icmp_ge (tgt := 50) S dX6_go_8 (by decide) ?_ ?_
    · exact hk0 h
    · refine ct_aload_n (k := 0) S dX6_go_11 rfl rfl ?_
      refine ct_aload_n (k := 0) S dX6_go_12 rfl rfl ?_
      refine ct_getI S fw_X6_28 dX6_go_13 (fun x3 => ?_)
      refine ct_rc (fun b4 ci5 V6 hb7 hc8 hi9 => ?_)
      refine ct_cI (st := []) (cg_private (y0 := ⟨"HeldCoats$Reader", "holdNumber", "(II)I"⟩) (C0 := "HeldCoats$BookReader") (av := [cz_i x3]) S hb7 hc8 hi9 (fun _ e => mt_X6_byteAt e) md_X6_byteAt q522 q524 q523 q923 rfl (by decide) (Nat.le_of_ble_eq_true rfl) rfl dX6_go_16) (fun x11 h10 => ?_)
      refine ct_bipush (v := 32) S dX6_go_19 kB_32 ?_
      refine ct_jnP (fun j15 => ∀ (h12 : cz_H), cz_T K D 8 h0 oh 5 (j15 h12) h12 37 [(0, cz_r l0)] []) (fun h12 => ?_) (fun j15 Hj15 => ?_)
      · refine ct_aload_n (k := 0) S dX6_go_37 rfl rfl ?_
        refine ct_dup S dX6_go_38 rfl ?_
        refine ct_getI S fw_X6_28 dX6_go_39 (fun x13 => ?_)
        refine ct_iconst (v := 1) S dX6_go_42 kI_1 ?_
        refine ct_iadd S dX6_go_43 ?_
        refine ct_put S fw_X6_28 fp_X6_m_6_3_16_3_18_3 (cz_fits_i pd_I) dX6_go_44 (fun h14 => ?_)
        refine ct_goto (tgt := 0) S dX6_go_47 (by decide) ?_
        exact ih h14
      · refine ct_icmp_eq (tgt := 37) S dX6_go_21 (by decide) ?_ ?_
        · exact Hj15 h10
        · refine ct_aload_n (k := 0) S dX6_go_24 rfl rfl ?_
          refine ct_aload_n (k := 0) S dX6_go_25 rfl rfl ?_
          refine ct_getI S fw_X6_28 dX6_go_26 (fun x16 => ?_)
          refine ct_rc (fun b17 ci18 V19 hb20 hc21 hi22 => ?_)
          refine ct_cI (st := []) (cg_private (y0 := ⟨"HeldCoats$Reader", "holdNumber", "(II)I"⟩) (C0 := "HeldCoats$BookReader") (av := [cz_i x16]) S hb20 hc21 hi22 (fun _ e => mt_X6_byteAt e) md_X6_byteAt q522 q524 q523 q923 rfl (by decide) (Nat.le_of_ble_eq_true rfl) rfl dX6_go_29) (fun x24 h23 => ?_)
          refine ct_bipush (v := 10) S dX6_go_32 kB_10 ?_
          refine ct_icmp_ne (tgt := 50) S dX6_go_34 (by decide) ?_ ?_
          · exact hk0 h23
          · exact Hj15 h23
set_option maxHeartbeats 4000000 in
set_option maxRecDepth 100000 in
noncomputable def fn_X6_go_221 (l0 : Option Nat) (l2 : Int32) (l4 : Option Nat) (k0 : Int32 → cz_H → cz_Z) : Nat → Int32 → cz_H → cz_Z
  | 0, _, _ => none
  | n + 1, l3, h => cz_getI h l0 [(6, 3), (16, 3), (18, 3)] (fun x53 => cz_rc h l0 [6, 16, 18] (cz_cI (fn_X6_byteAt l0 x53 h) (fun x61 h60 => cz_cI (fn_X6_isLetter x61 h60) (fun x63 h62 => cz_jn (fun (h64 : cz_H) => cz_jn (fun (v65 : Int32) (h66 : cz_H) => cz_getI h66 l0 [(6, 3), (16, 3), (18, 3)] (fun x67 => cz_getI h66 l0 [(6, 5), (16, 5), (18, 5)] (fun x68 => cz_jn (fun (h69 : cz_H) => cz_getI h69 l0 [(6, 3), (16, 3), (18, 3)] (fun x70 => cz_getI h69 l0 [(6, 5), (16, 5), (18, 5)] (fun x71 => cz_jn (fun (h72 : cz_H) => cz_getI h72 l0 [(6, 3), (16, 3), (18, 3)] (fun x73 => cz_put h72 l0 [(6, 3), (16, 3), (18, 3)] (cz_i (x73 + 1)) (fun h74 => fn_X6_go_221 l0 l2 l4 k0 n v65 h74))) (fun j75 => (if (3 : Int32) ≤ (x70 - x71) then j75 h69 else cz_getI h69 l0 [(6, 6), (16, 6), (18, 6)] (fun x76 => cz_getI h69 l0 [(6, 3), (16, 3), (18, 3)] (fun x77 => cz_rc h69 l0 [6, 16, 18] (cz_cI (fn_X6_byteAt l0 x77 h69) (fun x85 h84 => cz_put h84 l0 [(6, 6), (16, 6), (18, 6)] (cz_i ((((10 : Int32) * x76) + x85) - 48)) (fun h86 => j75 h86)))))))))) (fun j87 => (if (7 : Int32) ≤ (x67 - x68) then j87 h66 else cz_getI h66 l0 [(6, 3), (16, 3), (18, 3)] (fun x88 => cz_rc h66 l0 [6, 16, 18] (cz_cI (fn_X6_byteAt l0 x88 h66) (fun x96 h95 => cz_rc h95 l4 [7] (cz_cR (fn_J7_append l4 (((x96).toUInt32 % 65536).toInt32) h95) (fun r104 h103 => j87 h103)))))))))) (fun j105 => cz_jn (fun (h106 : cz_H) => j105 0 h106) (fun j107 => (if l3 = 0 then j107 h64 else cz_getI h64 l0 [(6, 3), (16, 3), (18, 3)] (fun x108 => cz_rc h64 l0 [6, 16, 18] (cz_cI (fn_X6_byteAt l0 x108 h64) (fun x116 h115 => cz_cI (fn_X6_isLetter x116 h115) (fun x118 h117 => (if x118 = l2 then j105 1 h117 else j107 h117))))))))) (fun j119 => (if x63 = 0 then cz_getI h62 l0 [(6, 3), (16, 3), (18, 3)] (fun x120 => cz_rc h62 l0 [6, 16, 18] (cz_cI (fn_X6_byteAt l0 x120 h62) (fun x128 h127 => cz_cI (fn_X6_isDigit x128 h127) (fun x130 h129 => (if x130 = 0 then k0 l3 h129 else j119 h129))))) else j119 h62))))))
set_option maxHeartbeats 4000000 in
set_option maxRecDepth 100000 in
theorem wk_X6_go_221 {K : cz_K} {D : cz_D} {h0 : cz_H} {oh : cz_O × cz_H} {l0 : Option Nat} {l2 : Int32} {l4 : Option Nat} {k0 : Int32 → cz_H → cz_Z} (S : cz_S K D h0 cX6_go 5 "HeldCoats$Reader" ((Option.none : Option Jvm.ClassFile.FieldType)) "go" ([])) (hk0 : ∀ (e3 : Int32) (h : cz_H), cz_T K D 8 h0 oh 5 (k0 e3 h) h 352 [(0, cz_r l0), (2, cz_i l2), (3, cz_i e3), (4, cz_r l4)] []) : ∀ (n : Nat) (l3 : Int32) (h : cz_H), cz_T K D 8 h0 oh 5 (fn_X6_go_221 l0 l2 l4 k0 n l3 h) h 221 [(0, cz_r l0), (2, cz_i l2), (3, cz_i l3), (4, cz_r l4)] [] := by
  intro n
  induction n with
  | zero => intros; exact ct_none
  | succ n ih =>
    intro l3 h
    rw [fn_X6_go_221]
    refine ct_aload_n (k := 0) S dX6_go_221 rfl rfl ?_
    refine ct_aload_n (k := 0) S dX6_go_222 rfl rfl ?_
    refine ct_getI S fw_X6_28 dX6_go_223 (fun x53 => ?_)
    refine ct_rc (fun b54 ci55 V56 hb57 hc58 hi59 => ?_)
    refine ct_cI (st := []) (cg_private (y0 := ⟨"HeldCoats$Reader", "holdNumber", "(II)I"⟩) (C0 := "HeldCoats$BookReader") (av := [cz_i x53]) S hb57 hc58 hi59 (fun _ e => mt_X6_byteAt e) md_X6_byteAt q522 q524 q523 q923 rfl (by decide) (Nat.le_of_ble_eq_true rfl) rfl dX6_go_226) (fun x61 h60 => ?_)
    refine ct_cI (st := []) (cg_static (av := [cz_i x61]) S (fun _ e => mt_X6_isLetter e) md_X6_isLetter (Or.inl q526) q527 (by decide) (Nat.le_of_ble_eq_true rfl) rfl dX6_go_229) (fun x63 h62 => ?_)
    refine ct_jnP (fun j119 => ∀ (h64 : cz_H), cz_T K D 8 h0 oh 5 (j119 h64) h64 249 [(0, cz_r l0), (2, cz_i l2), (3, cz_i l3), (4, cz_r l4)] []) (fun h64 => ?_) (fun j119 Hj119 => ?_)
    · refine ct_iload_n (k := 2) S dX6_go_249 rfl rfl ?_
      refine ct_jnP (fun j105 => ∀ (v65 : Int32) (h66 : cz_H), cz_T K D 8 h0 oh 5 (j105 v65 h66) h66 273 [(0, cz_r l0), (2, cz_i l2), (4, cz_r l4)] [cz_i v65]) (fun v65 h66 => ?_) (fun j105 Hj105 => ?_)
      · refine ct_istore_n (L' := [(3, cz_i v65), (0, cz_r l0), (2, cz_i l2), (4, cz_r l4)]) S dX6_go_273 rfl (by decide) rfl ?_
        refine ct_aload_n (k := 1) S dX6_go_274 rfl rfl ?_
        refine ct_getI S fw_X6_28 dX6_go_275 (fun x67 => ?_)
        refine ct_aload_n (k := 1) S dX6_go_278 rfl rfl ?_
        refine ct_getI S fw_X6_35 dX6_go_279 (fun x68 => ?_)
        refine ct_isub S dX6_go_282 ?_
        refine ct_bipush (v := 7) S dX6_go_283 kB_7 ?_
        refine ct_jnP (fun j87 => ∀ (h69 : cz_H), cz_T K D 8 h0 oh 5 (j87 h69) h69 303 [(0, cz_r l0), (2, cz_i l2), (3, cz_i v65), (4, cz_r l4)] []) (fun h69 => ?_) (fun j87 Hj87 => ?_)
        · refine ct_aload_n (k := 0) S dX6_go_303 rfl rfl ?_
          refine ct_getI S fw_X6_28 dX6_go_304 (fun x70 => ?_)
          refine ct_aload_n (k := 0) S dX6_go_307 rfl rfl ?_
          refine ct_getI S fw_X6_35 dX6_go_308 (fun x71 => ?_)
          refine ct_isub S dX6_go_311 ?_
          refine ct_iconst (v := 3) S dX6_go_312 kI_3 ?_
          refine ct_jnP (fun j75 => ∀ (h72 : cz_H), cz_T K D 8 h0 oh 5 (j75 h72) h72 339 [(0, cz_r l0), (2, cz_i l2), (3, cz_i v65), (4, cz_r l4)] []) (fun h72 => ?_) (fun j75 Hj75 => ?_)
          · refine ct_aload_n (k := 0) S dX6_go_339 rfl rfl ?_
            refine ct_dup S dX6_go_340 rfl ?_
            refine ct_getI S fw_X6_28 dX6_go_341 (fun x73 => ?_)
            refine ct_iconst (v := 1) S dX6_go_344 kI_1 ?_
            refine ct_iadd S dX6_go_345 ?_
            refine ct_put S fw_X6_28 fp_X6_m_6_3_16_3_18_3 (cz_fits_i pd_I) dX6_go_346 (fun h74 => ?_)
            refine ct_goto (tgt := 221) S dX6_go_349 (by decide) ?_
            exact ih v65 h74
          · refine ct_icmp_ge (tgt := 339) S dX6_go_313 (by decide) ?_ ?_
            · exact Hj75 h69
            · refine ct_aload_n (k := 0) S dX6_go_316 rfl rfl ?_
              refine ct_bipush (v := 10) S dX6_go_317 kB_10 ?_
              refine ct_aload_n (k := 0) S dX6_go_319 rfl rfl ?_
              refine ct_getI S fw_X6_51 dX6_go_320 (fun x76 => ?_)
              refine ct_imul S dX6_go_323 ?_
              refine ct_aload_n (k := 0) S dX6_go_324 rfl rfl ?_
              refine ct_aload_n (k := 0) S dX6_go_325 rfl rfl ?_
              refine ct_getI S fw_X6_28 dX6_go_326 (fun x77 => ?_)
              refine ct_rc (fun b78 ci79 V80 hb81 hc82 hi83 => ?_)
              refine ct_cI (st := [cz_i ((10 : Int32) * x76), cz_r l0]) (cg_private (y0 := ⟨"HeldCoats$Reader", "holdNumber", "(II)I"⟩) (C0 := "HeldCoats$BookReader") (av := [cz_i x77]) S hb81 hc82 hi83 (fun _ e => mt_X6_byteAt e) md_X6_byteAt q522 q524 q523 q923 rfl (by decide) (Nat.le_of_ble_eq_true rfl) rfl dX6_go_329) (fun x85 h84 => ?_)
              refine ct_iadd S dX6_go_332 ?_
              refine ct_bipush (v := 48) S dX6_go_333 kB_48 ?_
              refine ct_isub S dX6_go_335 ?_
              refine ct_put S fw_X6_51 fp_X6_m_6_6_16_6_18_6 (cz_fits_i pd_I) dX6_go_336 (fun h86 => ?_)
              exact Hj75 h86
        · refine ct_icmp_ge (tgt := 303) S dX6_go_285 (by decide) ?_ ?_
          · exact ct_sub [1, 2, 0, 3] rfl (Hj87 h66)
          · refine ct_aload (k := 3) S dX6_go_288 rfl ?_
            refine ct_aload_n (k := 1) S dX6_go_290 rfl rfl ?_
            refine ct_aload_n (k := 1) S dX6_go_291 rfl rfl ?_
            refine ct_getI S fw_X6_28 dX6_go_292 (fun x88 => ?_)
            refine ct_rc (fun b89 ci90 V91 hb92 hc93 hi94 => ?_)
            refine ct_cI (st := [cz_r l4]) (cg_private (y0 := ⟨"HeldCoats$Reader", "holdNumber", "(II)I"⟩) (C0 := "HeldCoats$BookReader") (av := [cz_i x88]) S hb92 hc93 hi94 (fun _ e => mt_X6_byteAt e) md_X6_byteAt q522 q524 q523 q923 rfl (by decide) (Nat.le_of_ble_eq_true rfl) rfl dX6_go_295) (fun x96 h95 => ?_)
            refine ct_i2c S dX6_go_298 ?_
            refine ct_rc (fun b97 ci98 V99 hb100 hc101 hi102 => ?_)
            refine ct_cR (st := []) (cg_virtual (av := [cz_i (((x96).toUInt32 % 65536).toInt32)]) S hb100 hc101 hi102 (fun _ e => mt_J7_append e) md_J7_append q563 q564 se_java_lang_StringBuilder_append__C_Ljava_lang_StringBuilder__java_lang_StringBuilder (by decide) (Nat.le_of_ble_eq_true rfl) rfl dX6_go_299) (fun r104 h103 => ?_)
            refine ct_pop S dX6_go_302 rfl ?_
            exact ct_sub [1, 2, 0, 3] rfl (Hj87 h103)
      · refine ct_jnP (fun j107 => ∀ (h106 : cz_H), cz_T K D 8 h0 oh 5 (j107 h106) h106 272 [(0, cz_r l0), (2, cz_i l2), (4, cz_r l4)] []) (fun h106 => ?_) (fun j107 Hj107 => ?_)
        · refine ct_iconst (v := 0) S dX6_go_272 kI_0 ?_
          exact Hj105 0 h106
        · refine ct_if_eq (tgt := 272) S dX6_go_250 (by decide) ?_ ?_
          · exact ct_sub [0, 1, 3] rfl (Hj107 h64)
          · refine ct_aload_n (k := 0) S dX6_go_253 rfl rfl ?_
            refine ct_aload_n (k := 0) S dX6_go_254 rfl rfl ?_
            refine ct_getI S fw_X6_28 dX6_go_255 (fun x108 => ?_)
            refine ct_rc (fun b109 ci110 V111 hb112 hc113 hi114 => ?_)
            refine ct_cI (st := []) (cg_private (y0 := ⟨"HeldCoats$Reader", "holdNumber", "(II)I"⟩) (C0 := "HeldCoats$BookReader") (av := [cz_i x108]) S hb112 hc113 hi114 (fun _ e => mt_X6_byteAt e) md_X6_byteAt q522 q524 q523 q923 rfl (by decide) (Nat.le_of_ble_eq_true rfl) rfl dX6_go_258) (fun x116 h115 => ?_)
            refine ct_cI (st := []) (cg_static (av := [cz_i x116]) S (fun _ e => mt_X6_isLetter e) md_X6_isLetter (Or.inl q526) q527 (by decide) (Nat.le_of_ble_eq_true rfl) rfl dX6_go_261) (fun x118 h117 => ?_)
            refine ct_iload_n (k := 1) S dX6_go_264 rfl rfl ?_
            refine ct_icmp_ne (tgt := 272) S dX6_go_265 (by decide) ?_ ?_
            · exact ct_sub [0, 1, 3] rfl (Hj107 h117)
            · refine ct_iconst (v := 1) S dX6_go_268 kI_1 ?_
              refine ct_goto (tgt := 273) S dX6_go_269 (by decide) ?_
              exact ct_sub [0, 1, 3] rfl (Hj105 1 h117)
    · refine ct_if_ne (tgt := 249) S dX6_go_232 (by decide) ?_ ?_
      · exact Hj119 h62
      · refine ct_aload_n (k := 0) S dX6_go_235 rfl rfl ?_
        refine ct_aload_n (k := 0) S dX6_go_236 rfl rfl ?_
        refine ct_getI S fw_X6_28 dX6_go_237 (fun x120 => ?_)
        refine ct_rc (fun b121 ci122 V123 hb124 hc125 hi126 => ?_)
        refine ct_cI (st := []) (cg_private (y0 := ⟨"HeldCoats$Reader", "holdNumber", "(II)I"⟩) (C0 := "HeldCoats$BookReader") (av := [cz_i x120]) S hb124 hc125 hi126 (fun _ e => mt_X6_byteAt e) md_X6_byteAt q522 q524 q523 q923 rfl (by decide) (Nat.le_of_ble_eq_true rfl) rfl dX6_go_240) (fun x128 h127 => ?_)
        refine ct_cI (st := []) (cg_static (av := [cz_i x128]) S (fun _ e => mt_X6_isDigit e) md_X6_isDigit (Or.inl q529) q530 (by decide) (Nat.le_of_ble_eq_true rfl) rfl dX6_go_243) (fun x130 h129 => ?_)
        refine ct_if_eq (tgt := 352) S dX6_go_246 (by decide) ?_ ?_
        · exact hk0 l3 h129
        · exact Hj119 h129
set_option maxHeartbeats 4000000 in
set_option maxRecDepth 100000 in
noncomputable def fn_X6_go (l0 : Option Nat) (h : cz_H) : cz_Z := fn_X6_go_0 l0 (fun (h25 : cz_H) => cz_getI h25 l0 [(6, 3), (16, 3), (18, 3)] (fun x26 => cz_put h25 l0 [(6, 5), (16, 5), (18, 5)] (cz_i x26) (fun h27 => cz_getI h27 l0 [(6, 1), (16, 1), (18, 1)] (fun x28 => cz_getI h27 l0 [(6, 2), (16, 2), (18, 2)] (fun x29 => cz_jn (fun (h30 : cz_H) => cz_getI h30 l0 [(6, 3), (16, 3), (18, 3)] (fun x31 => cz_getI h30 l0 [(6, 1), (16, 1), (18, 1)] (fun x32 => (if x31 < x32 then cz_getI h30 l0 [(6, 3), (16, 3), (18, 3)] (fun x33 => cz_rc h30 l0 [6, 16, 18] (cz_cI (fn_X6_byteAt l0 x33 h30) (fun x41 h40 => cz_cI (fn_X6_isLetter x41 h40) (fun x43 h42 => cz_jn (fun (h44 : cz_H) => cz_cI (fn_X6_isLetter x41 h44) (fun x46 h45 => cz_put h45 l0 [(6, 6), (16, 6), (18, 6)] (cz_i 0) (fun h47 => cz_newo h47 7 4 (fun r48 h49 => cz_nn' r48 (cz_cV (fn_J7_init r48 h49) (fun h52 => fn_X6_go_221 l0 x46 r48 (fun (e131 : Int32) (h132 : cz_H) => cz_rc h132 r48 [7] (cz_cR (fn_J7_toString r48 h132) (fun r140 h139 => cz_put h139 l0 [(6, 8), (16, 8), (18, 8)] (cz_r r140) (fun h141 => (if e131 = 0 then cz_put h141 l0 [(6, 4), (16, 4), (18, 4)] (cz_i 1) (fun h142 => some (.inl none, h142)) else cz_getI h141 l0 [(6, 3), (16, 3), (18, 3)] (fun x143 => cz_getI h141 l0 [(6, 5), (16, 5), (18, 5)] (fun x144 => cz_jn (fun (v145 : Int32) (h146 : cz_H) => (if (x143 - x144) ≤ v145 then (if x46 = 0 then cz_put h146 l0 [(6, 4), (16, 4), (18, 4)] (cz_i 3) (fun h147 => some (.inl none, h147)) else cz_put h146 l0 [(6, 4), (16, 4), (18, 4)] (cz_i 2) (fun h148 => some (.inl none, h148))) else cz_put h146 l0 [(6, 4), (16, 4), (18, 4)] (cz_i 1) (fun h149 => some (.inl none, h149)))) (fun j150 => (if x46 = 0 then j150 3 h141 else j150 7 h141))))))))) 1000 1 h52)))))) (fun j151 => (if x43 = 0 then cz_cI (fn_X6_isDigit x41 h42) (fun x153 h152 => (if x153 = 0 then cz_jn (fun (v154 : Int32) (h155 : cz_H) => cz_put h155 l0 [(6, 4), (16, 4), (18, 4)] (cz_i v154) (fun h156 => cz_put h156 l0 [(6, 7), (16, 7), (18, 7)] (cz_i x41) (fun h157 => cz_getI h157 l0 [(6, 3), (16, 3), (18, 3)] (fun x158 => cz_put h157 l0 [(6, 3), (16, 3), (18, 3)] (cz_i (x158 + 1)) (fun h159 => some (.inl none, h159)))))) (fun j160 => (if x41 = 59 then j160 4 h152 else cz_jn (fun (h161 : cz_H) => j160 6 h161) (fun j162 => (if x41 = 60 then j162 h152 else (if x41 = 61 then j162 h152 else (if x41 = 62 then j162 h152 else (if x41 = 40 then j162 h152 else (if x41 = 41 then j162 h152 else j160 1 h152)))))))) else j151 h152)) else j151 h42)))))) else cz_put h30 l0 [(6, 4), (16, 4), (18, 4)] (cz_i 0) (fun h163 => some (.inl none, h163)))))) (fun j164 => (if x28 ≤ x29 then j164 h27 else cz_getI h27 l0 [(6, 5), (16, 5), (18, 5)] (fun x165 => cz_getI h27 l0 [(6, 2), (16, 2), (18, 2)] (fun x166 => (if x165 < x166 then j164 h27 else cz_getI h27 l0 [(6, 2), (16, 2), (18, 2)] (fun x167 => cz_put h27 l0 [(6, 5), (16, 5), (18, 5)] (cz_i x167) (fun h168 => cz_put h168 l0 [(6, 4), (16, 4), (18, 4)] (cz_i 5) (fun h169 => some (.inl none, h169)))))))))))))) 1000 h
set_option maxHeartbeats 4000000 in
set_option maxRecDepth 100000 in
theorem wk_X6_go {K : cz_K} {D : cz_D} {h0 : cz_H} {oh : cz_O × cz_H} {l0 : Option Nat} {h : cz_H} (S : cz_S K D h0 cX6_go 5 "HeldCoats$Reader" ((Option.none : Option Jvm.ClassFile.FieldType)) "go" ([])) : cz_T K D 8 h0 oh 5 (fn_X6_go l0 h) h 0 [(0, cz_r l0)] [] := by
  unfold fn_X6_go
  refine ct_sub [0] (L' := [(0, cz_r l0)]) rfl (wk_X6_go_0 S ?_ 1000 h)
  · intro h25
    refine ct_aload_n (k := 0) S dX6_go_50 rfl rfl ?_
    refine ct_aload_n (k := 0) S dX6_go_51 rfl rfl ?_
    refine ct_getI S fw_X6_28 dX6_go_52 (fun x26 => ?_)
    refine ct_put S fw_X6_35 fp_X6_m_6_5_16_5_18_5 (cz_fits_i pd_I) dX6_go_55 (fun h27 => ?_)
    refine ct_aload_n (k := 0) S dX6_go_58 rfl rfl ?_
    refine ct_getI S fw_X6_21 dX6_go_59 (fun x28 => ?_)
    refine ct_aload_n (k := 0) S dX6_go_62 rfl rfl ?_
    refine ct_getI S fw_X6_25 dX6_go_63 (fun x29 => ?_)
    refine ct_jnP (fun j164 => ∀ (h30 : cz_H), cz_T K D 8 h0 oh 5 (j164 h30) h30 94 [(0, cz_r l0)] []) (fun h30 => ?_) (fun j164 Hj164 => ?_)
    · refine ct_aload_n (k := 0) S dX6_go_94 rfl rfl ?_
      refine ct_getI S fw_X6_28 dX6_go_95 (fun x31 => ?_)
      refine ct_aload_n (k := 0) S dX6_go_98 rfl rfl ?_
      refine ct_getI S fw_X6_21 dX6_go_99 (fun x32 => ?_)
      refine ct_icmp_lt (tgt := 111) S dX6_go_102 (by decide) ?_ ?_
      · refine ct_aload_n (k := 0) S dX6_go_111 rfl rfl ?_
        refine ct_aload_n (k := 0) S dX6_go_112 rfl rfl ?_
        refine ct_getI S fw_X6_28 dX6_go_113 (fun x33 => ?_)
        refine ct_rc (fun b34 ci35 V36 hb37 hc38 hi39 => ?_)
        refine ct_cI (st := []) (cg_private (y0 := ⟨"HeldCoats$Reader", "holdNumber", "(II)I"⟩) (C0 := "HeldCoats$BookReader") (av := [cz_i x33]) S hb37 hc38 hi39 (fun _ e => mt_X6_byteAt e) md_X6_byteAt q522 q524 q523 q923 rfl (by decide) (Nat.le_of_ble_eq_true rfl) rfl dX6_go_116) (fun x41 h40 => ?_)
        refine ct_istore_n (L' := [(1, cz_i x41), (0, cz_r l0)]) S dX6_go_119 rfl (by decide) rfl ?_
        refine ct_iload_n (k := 0) S dX6_go_120 rfl rfl ?_
        refine ct_cI (st := []) (cg_static (av := [cz_i x41]) S (fun _ e => mt_X6_isLetter e) md_X6_isLetter (Or.inl q526) q527 (by decide) (Nat.le_of_ble_eq_true rfl) rfl dX6_go_121) (fun x43 h42 => ?_)
        refine ct_jnP (fun j151 => ∀ (h44 : cz_H), cz_T K D 8 h0 oh 5 (j151 h44) h44 200 [(0, cz_r l0), (1, cz_i x41)] []) (fun h44 => ?_) (fun j151 Hj151 => ?_)
        · refine ct_iload_n (k := 1) S dX6_go_200 rfl rfl ?_
          refine ct_cI (st := []) (cg_static (av := [cz_i x41]) S (fun _ e => mt_X6_isLetter e) md_X6_isLetter (Or.inl q526) q527 (by decide) (Nat.le_of_ble_eq_true rfl) rfl dX6_go_201) (fun x46 h45 => ?_)
          refine ct_istore_n (L' := [(2, cz_i x46), (0, cz_r l0), (1, cz_i x41)]) S dX6_go_204 rfl (by decide) rfl ?_
          refine ct_iconst (v := 1) S dX6_go_205 kI_1 ?_
          refine ct_istore_n (L' := [(3, cz_i 1), (2, cz_i x46), (0, cz_r l0), (1, cz_i x41)]) S dX6_go_206 rfl (by decide) rfl ?_
          refine ct_aload_n (k := 2) S dX6_go_207 rfl rfl ?_
          refine ct_iconst (v := 0) S dX6_go_208 kI_0 ?_
          refine ct_put S fw_X6_51 fp_X6_m_6_6_16_6_18_6 (cz_fits_i pd_I) dX6_go_209 (fun h47 => ?_)
          refine ct_newo S (by decide) cz_cl7 q532 dX6_go_212 (fun r48 h49 => ?_)
          refine ct_dup S dX6_go_215 rfl ?_
          refine ct_nn (fun b50 hb51 => ?_)
          refine ct_cV (st := [cz_r r48]) (cg_init (av := []) S hb51 (fun _ e => mt_J7_init e) q536 (Or.inl q534) rfl q535 q127 nh_java_lang_StringBuilder__init____V (by decide) (by decide) (Nat.le_of_ble_eq_true rfl) rfl dX6_go_216) (fun h52 => ?_)
          refine ct_astore (L' := [(4, cz_r r48), (3, cz_i 1), (2, cz_i x46), (0, cz_r l0), (1, cz_i x41)]) S dX6_go_219 (by decide) rfl ?_
          refine ct_sub [3, 2, 1, 0] (L' := [(0, cz_r l0), (2, cz_i x46), (3, cz_i 1), (4, cz_r r48)]) rfl (wk_X6_go_221 S ?_ 1000 1 h52)
          · intro e131 h132
            refine ct_aload_n (k := 0) S dX6_go_352 rfl rfl ?_
            refine ct_aload (k := 3) S dX6_go_353 rfl ?_
            refine ct_rc (fun b133 ci134 V135 hb136 hc137 hi138 => ?_)
            refine ct_cR (st := [cz_r l0]) (cg_virtual (av := []) S hb136 hc137 hi138 (fun _ e => mt_J7_toString e) md_J7_toString q656 q657 se_java_lang_StringBuilder_toString___Ljava_lang_String__java_lang_StringBuilder (by decide) (Nat.le_of_ble_eq_true rfl) rfl dX6_go_355) (fun r140 h139 => ?_)
            refine ct_put S fw_X6_11 fp_X6_m_6_8_16_8_18_8 (cz_fits_r pd_Ljava_lang_String_) dX6_go_358 (fun h141 => ?_)
            refine ct_aload_n (k := 0) S dX6_go_361 rfl rfl ?_
            refine ct_iload_n (k := 2) S dX6_go_362 rfl rfl ?_
            refine ct_if_eq (tgt := 388) S dX6_go_363 (by decide) ?_ ?_
            · refine ct_iconst (v := 1) S dX6_go_388 kI_1 ?_
              refine ct_goto (tgt := 401) S dX6_go_389 (by decide) ?_
              refine ct_put S fw_X6_38 fp_X6_m_6_4_16_4_18_4 (cz_fits_i pd_I) dX6_go_401 (fun h142 => ?_)
              exact ct_vret S rfl dX6_go_404
            · refine ct_aload_n (k := 0) S dX6_go_366 rfl rfl ?_
              refine ct_getI S fw_X6_28 dX6_go_367 (fun x143 => ?_)
              refine ct_aload_n (k := 0) S dX6_go_370 rfl rfl ?_
              refine ct_getI S fw_X6_35 dX6_go_371 (fun x144 => ?_)
              refine ct_isub S dX6_go_374 ?_
              refine ct_iload_n (k := 1) S dX6_go_375 rfl rfl ?_
              refine ct_jnP (fun j150 => ∀ (v145 : Int32) (h146 : cz_H), cz_T K D 8 h0 oh 5 (j150 v145 h146) h146 385 [(2, cz_i x46)] [cz_i v145, cz_i (x143 - x144), cz_r l0]) (fun v145 h146 => ?_) (fun j150 Hj150 => ?_)
              · refine ct_icmp_le (tgt := 392) S dX6_go_385 (by decide) ?_ ?_
                · refine ct_iload_n (k := 0) S dX6_go_392 rfl rfl ?_
                  refine ct_if_eq (tgt := 400) S dX6_go_393 (by decide) ?_ ?_
                  · refine ct_iconst (v := 3) S dX6_go_400 kI_3 ?_
                    refine ct_put S fw_X6_38 fp_X6_m_6_4_16_4_18_4 (cz_fits_i pd_I) dX6_go_401 (fun h147 => ?_)
                    exact ct_vret S rfl dX6_go_404
                  · refine ct_iconst (v := 2) S dX6_go_396 kI_2 ?_
                    refine ct_goto (tgt := 401) S dX6_go_397 (by decide) ?_
                    refine ct_put S fw_X6_38 fp_X6_m_6_4_16_4_18_4 (cz_fits_i pd_I) dX6_go_401 (fun h148 => ?_)
                    exact ct_vret S rfl dX6_go_404
                · refine ct_iconst (v := 1) S dX6_go_388 kI_1 ?_
                  refine ct_goto (tgt := 401) S dX6_go_389 (by decide) ?_
                  refine ct_put S fw_X6_38 fp_X6_m_6_4_16_4_18_4 (cz_fits_i pd_I) dX6_go_401 (fun h149 => ?_)
                  exact ct_vret S rfl dX6_go_404
              · refine ct_if_eq (tgt := 384) S dX6_go_376 (by decide) ?_ ?_
                · refine ct_iconst (v := 3) S dX6_go_384 kI_3 ?_
                  exact ct_sub [1] rfl (Hj150 3 h141)
                · refine ct_bipush (v := 7) S dX6_go_379 kB_7 ?_
                  refine ct_goto (tgt := 385) S dX6_go_381 (by decide) ?_
                  exact ct_sub [1] rfl (Hj150 7 h141)
        · refine ct_if_ne (tgt := 200) S dX6_go_124 (by decide) ?_ ?_
          · exact ct_sub [1, 0] rfl (Hj151 h42)
          · refine ct_iload_n (k := 0) S dX6_go_127 rfl rfl ?_
            refine ct_cI (st := []) (cg_static (av := [cz_i x41]) S (fun _ e => mt_X6_isDigit e) md_X6_isDigit (Or.inl q529) q530 (by decide) (Nat.le_of_ble_eq_true rfl) rfl dX6_go_128) (fun x153 h152 => ?_)
            refine ct_if_ne (tgt := 200) S dX6_go_131 (by decide) ?_ ?_
            · exact ct_sub [1, 0] rfl (Hj151 h152)
            · refine ct_aload_n (k := 1) S dX6_go_134 rfl rfl ?_
              refine ct_iload_n (k := 0) S dX6_go_135 rfl rfl ?_
              refine ct_bipush (v := 59) S dX6_go_136 kB_59 ?_
              refine ct_jnP (fun j160 => ∀ (v154 : Int32) (h155 : cz_H), cz_T K D 8 h0 oh 5 (j160 v154 h155) h155 181 [(0, cz_r l0), (1, cz_i x41)] [cz_i v154, cz_r l0]) (fun v154 h155 => ?_) (fun j160 Hj160 => ?_)
              · refine ct_put S fw_X6_38 fp_X6_m_6_4_16_4_18_4 (cz_fits_i pd_I) dX6_go_181 (fun h156 => ?_)
                refine ct_aload_n (k := 0) S dX6_go_184 rfl rfl ?_
                refine ct_iload_n (k := 1) S dX6_go_185 rfl rfl ?_
                refine ct_put S fw_X6_48 fp_X6_m_6_7_16_7_18_7 (cz_fits_i pd_I) dX6_go_186 (fun h157 => ?_)
                refine ct_aload_n (k := 0) S dX6_go_189 rfl rfl ?_
                refine ct_dup S dX6_go_190 rfl ?_
                refine ct_getI S fw_X6_28 dX6_go_191 (fun x158 => ?_)
                refine ct_iconst (v := 1) S dX6_go_194 kI_1 ?_
                refine ct_iadd S dX6_go_195 ?_
                refine ct_put S fw_X6_28 fp_X6_m_6_3_16_3_18_3 (cz_fits_i pd_I) dX6_go_196 (fun h159 => ?_)
                exact ct_vret S rfl dX6_go_199
              · refine ct_icmp_ne (tgt := 145) S dX6_go_138 (by decide) ?_ ?_
                · refine ct_iload_n (k := 0) S dX6_go_145 rfl rfl ?_
                  refine ct_bipush (v := 60) S dX6_go_146 kB_60 ?_
                  refine ct_jnP (fun j162 => ∀ (h161 : cz_H), cz_T K D 8 h0 oh 5 (j162 h161) h161 175 [(0, cz_r l0), (1, cz_i x41)] [cz_r l0]) (fun h161 => ?_) (fun j162 Hj162 => ?_)
                  · refine ct_bipush (v := 6) S dX6_go_175 kB_6 ?_
                    refine ct_goto (tgt := 181) S dX6_go_177 (by decide) ?_
                    exact Hj160 6 h161
                  · refine ct_icmp_eq (tgt := 175) S dX6_go_148 (by decide) ?_ ?_
                    · exact ct_sub [1, 0] rfl (Hj162 h152)
                    · refine ct_iload_n (k := 0) S dX6_go_151 rfl rfl ?_
                      refine ct_bipush (v := 61) S dX6_go_152 kB_61 ?_
                      refine ct_icmp_eq (tgt := 175) S dX6_go_154 (by decide) ?_ ?_
                      · exact ct_sub [1, 0] rfl (Hj162 h152)
                      · refine ct_iload_n (k := 0) S dX6_go_157 rfl rfl ?_
                        refine ct_bipush (v := 62) S dX6_go_158 kB_62 ?_
                        refine ct_icmp_eq (tgt := 175) S dX6_go_160 (by decide) ?_ ?_
                        · exact ct_sub [1, 0] rfl (Hj162 h152)
                        · refine ct_iload_n (k := 0) S dX6_go_163 rfl rfl ?_
                          refine ct_bipush (v := 40) S dX6_go_164 kB_40 ?_
                          refine ct_icmp_eq (tgt := 175) S dX6_go_166 (by decide) ?_ ?_
                          · exact ct_sub [1, 0] rfl (Hj162 h152)
                          · refine ct_iload_n (k := 0) S dX6_go_169 rfl rfl ?_
                            refine ct_bipush (v := 41) S dX6_go_170 kB_41 ?_
                            refine ct_icmp_ne (tgt := 180) S dX6_go_172 (by decide) ?_ ?_
                            · refine ct_iconst (v := 1) S dX6_go_180 kI_1 ?_
                              exact ct_sub [1, 0] rfl (Hj160 1 h152)
                            · exact ct_sub [1, 0] rfl (Hj162 h152)
                · refine ct_iconst (v := 4) S dX6_go_141 kI_4 ?_
                  refine ct_goto (tgt := 181) S dX6_go_142 (by decide) ?_
                  exact ct_sub [1, 0] rfl (Hj160 4 h152)
      · refine ct_aload_n (k := 0) S dX6_go_105 rfl rfl ?_
        refine ct_iconst (v := 0) S dX6_go_106 kI_0 ?_
        refine ct_put S fw_X6_38 fp_X6_m_6_4_16_4_18_4 (cz_fits_i pd_I) dX6_go_107 (fun h163 => ?_)
        exact ct_vret S rfl dX6_go_110
    · refine ct_icmp_le (tgt := 94) S dX6_go_66 (by decide) ?_ ?_
      · exact Hj164 h27
      · refine ct_aload_n (k := 0) S dX6_go_69 rfl rfl ?_
        refine ct_getI S fw_X6_35 dX6_go_70 (fun x165 => ?_)
        refine ct_aload_n (k := 0) S dX6_go_73 rfl rfl ?_
        refine ct_getI S fw_X6_25 dX6_go_74 (fun x166 => ?_)
        refine ct_icmp_lt (tgt := 94) S dX6_go_77 (by decide) ?_ ?_
        · exact Hj164 h27
        · refine ct_aload_n (k := 0) S dX6_go_80 rfl rfl ?_
          refine ct_aload_n (k := 0) S dX6_go_81 rfl rfl ?_
          refine ct_getI S fw_X6_25 dX6_go_82 (fun x167 => ?_)
          refine ct_put S fw_X6_35 fp_X6_m_6_5_16_5_18_5 (cz_fits_i pd_I) dX6_go_85 (fun h168 => ?_)
          refine ct_aload_n (k := 0) S dX6_go_88 rfl rfl ?_
          refine ct_iconst (v := 5) S dX6_go_89 kI_5 ?_
          refine ct_put S fw_X6_38 fp_X6_m_6_4_16_4_18_4 (cz_fits_i pd_I) dX6_go_90 (fun h169 => ?_)
          exact ct_vret S rfl dX6_go_93
theorem mt_X6_go {l : Launch} {D : cz_D} {l0 : Option Nat} {h : cz_H} {oh : cz_O × cz_H} (hz : fn_X6_go l0 h = some oh) : cz_M l D yX6_go (ws_ yX6_go cX6_go 5 ((Option.none : Option Jvm.ClassFile.FieldType))) 8 [cz_r l0] h oh := cz_met (plainFor_of_name (by decide)) (Nat.le_of_ble_eq_true rfl) hz (fun K hl S => wk_X6_go S)
/-! java/lang/StringLatin1.equals([B[B)Z -/
def dkwJ12_equals_1 : List UInt8 := [3, 172, 132, 2, 1, 167, 255, 236, 4, 172, 3, 172]
abbrev dktJ12_equals_1 : List UInt8 := dkwJ12_equals_1 ++ []
def dkwJ12_equals_0 : List UInt8 := [42, 190, 43, 190, 160, 0, 30, 3, 61, 28, 42, 190, 162, 0, 20, 42, 28, 51, 43, 28, 51, 159, 0, 5]
abbrev dktJ12_equals_0 : List UInt8 := dkwJ12_equals_0 ++ dktJ12_equals_1
theorem dksJ12_equals_0 : cJ12_equals.data.toList.drop 0 = dktJ12_equals_0 := by decide +kernel
theorem dksJ12_equals_1 : cJ12_equals.data.toList.drop 24 = dktJ12_equals_1 := dk_seg dksJ12_equals_0 24 rfl rfl
theorem dJ12_equals_0 : decode cJ12_equals 0 = .ok (.aload_n 0, 1) := dk_42 (dk_at dksJ12_equals_0 0 rfl rfl)
theorem dJ12_equals_1 : decode cJ12_equals 1 = .ok (.arraylength, 1) := dk_190 (dk_at dksJ12_equals_0 1 rfl rfl)
theorem dJ12_equals_2 : decode cJ12_equals 2 = .ok (.aload_n 1, 1) := dk_43 (dk_at dksJ12_equals_0 2 rfl rfl)
theorem dJ12_equals_3 : decode cJ12_equals 3 = .ok (.arraylength, 1) := dk_190 (dk_at dksJ12_equals_0 3 rfl rfl)
theorem dJ12_equals_4 : decode cJ12_equals 4 = .ok (.if_icmp .ne 30, 3) := dk_160 0 30 (dk_at dksJ12_equals_0 4 rfl rfl)
theorem dJ12_equals_7 : decode cJ12_equals 7 = .ok (.iconst 0, 1) := dk_3 (dk_at dksJ12_equals_0 7 rfl rfl)
theorem dJ12_equals_8 : decode cJ12_equals 8 = .ok (.istore_n 2, 1) := dk_61 (dk_at dksJ12_equals_0 8 rfl rfl)
theorem dJ12_equals_9 : decode cJ12_equals 9 = .ok (.iload_n 2, 1) := dk_28 (dk_at dksJ12_equals_0 9 rfl rfl)
theorem dJ12_equals_10 : decode cJ12_equals 10 = .ok (.aload_n 0, 1) := dk_42 (dk_at dksJ12_equals_0 10 rfl rfl)
theorem dJ12_equals_11 : decode cJ12_equals 11 = .ok (.arraylength, 1) := dk_190 (dk_at dksJ12_equals_0 11 rfl rfl)
theorem dJ12_equals_12 : decode cJ12_equals 12 = .ok (.if_icmp .ge 20, 3) := dk_162 0 20 (dk_at dksJ12_equals_0 12 rfl rfl)
theorem dJ12_equals_15 : decode cJ12_equals 15 = .ok (.aload_n 0, 1) := dk_42 (dk_at dksJ12_equals_0 15 rfl rfl)
theorem dJ12_equals_16 : decode cJ12_equals 16 = .ok (.iload_n 2, 1) := dk_28 (dk_at dksJ12_equals_0 16 rfl rfl)
theorem dJ12_equals_17 : decode cJ12_equals 17 = .ok (.baload, 1) := dk_51 (dk_at dksJ12_equals_0 17 rfl rfl)
theorem dJ12_equals_18 : decode cJ12_equals 18 = .ok (.aload_n 1, 1) := dk_43 (dk_at dksJ12_equals_0 18 rfl rfl)
theorem dJ12_equals_19 : decode cJ12_equals 19 = .ok (.iload_n 2, 1) := dk_28 (dk_at dksJ12_equals_0 19 rfl rfl)
theorem dJ12_equals_20 : decode cJ12_equals 20 = .ok (.baload, 1) := dk_51 (dk_at dksJ12_equals_0 20 rfl rfl)
theorem dJ12_equals_21 : decode cJ12_equals 21 = .ok (.if_icmp .eq 5, 3) := dk_159 0 5 (dk_at dksJ12_equals_0 21 rfl rfl)
theorem dJ12_equals_24 : decode cJ12_equals 24 = .ok (.iconst 0, 1) := dk_3 (dk_at dksJ12_equals_1 0 rfl rfl)
theorem dJ12_equals_25 : decode cJ12_equals 25 = .ok (.ireturn, 1) := dk_172 (dk_at dksJ12_equals_1 1 rfl rfl)
theorem dJ12_equals_26 : decode cJ12_equals 26 = .ok (.iinc 2 1, 3) := dk_132 2 1 (dk_at dksJ12_equals_1 2 rfl rfl)
theorem dJ12_equals_29 : decode cJ12_equals 29 = .ok (.goto (-20), 3) := dk_167 255 236 (dk_at dksJ12_equals_1 5 rfl rfl)
theorem dJ12_equals_32 : decode cJ12_equals 32 = .ok (.iconst 1, 1) := dk_4 (dk_at dksJ12_equals_1 8 rfl rfl)
theorem dJ12_equals_33 : decode cJ12_equals 33 = .ok (.ireturn, 1) := dk_172 (dk_at dksJ12_equals_1 9 rfl rfl)
theorem dJ12_equals_34 : decode cJ12_equals 34 = .ok (.iconst 0, 1) := dk_3 (dk_at dksJ12_equals_1 10 rfl rfl)
theorem dJ12_equals_35 : decode cJ12_equals 35 = .ok (.ireturn, 1) := dk_172 (dk_at dksJ12_equals_1 11 rfl rfl)
set_option maxHeartbeats 4000000 in
set_option maxRecDepth 100000 in
noncomputable def fn_J12_equals_9 (l0 : Option Nat) (l1 : Option Nat) (k0 : cz_H → cz_Z) (k1 : cz_H → cz_Z) : Nat → Int32 → cz_H → cz_Z
  | 0, _, _ => none
  | n + 1, l2, h => cz_alen h l0 (fun x3 => (if x3 ≤ l2 then k1 h else cz_bald h l0 l2 (fun x4 => cz_bald h l1 l2 (fun x5 => (if x4 = x5 then cz_leti (l2 + 1) (fun x6 => fn_J12_equals_9 l0 l1 k0 k1 n x6 h) else k0 h)))))
set_option maxHeartbeats 4000000 in
set_option maxRecDepth 100000 in
theorem wk_J12_equals_9 {K : cz_K} {D : cz_D} {h0 : cz_H} {oh : cz_O × cz_H} {l0 : Option Nat} {l1 : Option Nat} {k0 : cz_H → cz_Z} {k1 : cz_H → cz_Z} (S : cz_S K D h0 cJ12_equals 3 "java/lang/StringLatin1" ((Option.some Jvm.ClassFile.FieldType.boolean)) "equals" ([])) (hk0 : ∀ (h : cz_H), cz_T K D 2 h0 oh 3 (k0 h) h 24 [] []) (hk1 : ∀ (h : cz_H), cz_T K D 2 h0 oh 3 (k1 h) h 32 [] []) : ∀ (n : Nat) (l2 : Int32) (h : cz_H), cz_T K D 2 h0 oh 3 (fn_J12_equals_9 l0 l1 k0 k1 n l2 h) h 9 [(0, cz_r l0), (1, cz_r l1), (2, cz_i l2)] [] := by
  intro n
  induction n with
  | zero => intros; exact ct_none
  | succ n ih =>
    intro l2 h
    rw [fn_J12_equals_9]
    refine ct_iload_n (k := 2) S dJ12_equals_9 rfl rfl ?_
    refine ct_aload_n (k := 0) S dJ12_equals_10 rfl rfl ?_
    refine ct_alen S dJ12_equals_11 (fun x3 => ?_)
    refine ct_icmp_ge (tgt := 32) S dJ12_equals_12 (by decide) ?_ ?_
    · exact ct_sub [] rfl (hk1 h)
    · refine ct_aload_n (k := 0) S dJ12_equals_15 rfl rfl ?_
      refine ct_iload_n (k := 2) S dJ12_equals_16 rfl rfl ?_
      refine ct_bald S dJ12_equals_17 (fun x4 => ?_)
      refine ct_aload_n (k := 1) S dJ12_equals_18 rfl rfl ?_
      refine ct_iload_n (k := 2) S dJ12_equals_19 rfl rfl ?_
      refine ct_bald S dJ12_equals_20 (fun x5 => ?_)
      refine ct_icmp_eq (tgt := 26) S dJ12_equals_21 (by decide) ?_ ?_
      · refine ct_iincL (j := 2) (L2 := fun x6 => [(2, cz_i x6), (0, cz_r l0), (1, cz_r l1)]) S dJ12_equals_26 rfl kI_1 (by decide) (fun _ => rfl) (fun x6 => ?_)
        refine ct_goto (tgt := 9) S dJ12_equals_29 (by decide) ?_
        exact ct_sub [1, 2, 0] rfl (ih x6 h)
      · exact ct_sub [] rfl (hk0 h)
set_option maxHeartbeats 4000000 in
set_option maxRecDepth 100000 in
noncomputable def fn_J12_equals (l0 : Option Nat) (l1 : Option Nat) (h : cz_H) : cz_Z := cz_alen h l0 (fun x1 => cz_alen h l1 (fun x2 => (if x1 = x2 then fn_J12_equals_9 l0 l1 (fun (h7 : cz_H) => some (.inl (some (cz_i 0)), h7)) (fun (h8 : cz_H) => some (.inl (some (cz_i 1)), h8)) 1000 0 h else some (.inl (some (cz_i 0)), h))))
set_option maxHeartbeats 4000000 in
set_option maxRecDepth 100000 in
theorem wk_J12_equals {K : cz_K} {D : cz_D} {h0 : cz_H} {oh : cz_O × cz_H} {l0 : Option Nat} {l1 : Option Nat} {h : cz_H} (S : cz_S K D h0 cJ12_equals 3 "java/lang/StringLatin1" ((Option.some Jvm.ClassFile.FieldType.boolean)) "equals" ([])) : cz_T K D 2 h0 oh 3 (fn_J12_equals l0 l1 h) h 0 [(0, cz_r l0), (1, cz_r l1)] [] := by
  unfold fn_J12_equals
  refine ct_aload_n (k := 0) S dJ12_equals_0 rfl rfl ?_
  refine ct_alen S dJ12_equals_1 (fun x1 => ?_)
  refine ct_aload_n (k := 1) S dJ12_equals_2 rfl rfl ?_
  refine ct_alen S dJ12_equals_3 (fun x2 => ?_)
  refine ct_icmp_ne (tgt := 34) S dJ12_equals_4 (by decide) ?_ ?_
  · refine ct_iconst (v := 0) S dJ12_equals_34 kI_0 ?_
    exact ct_zr (ty := .boolean) S rfl rfl dJ12_equals_35
  · refine ct_iconst (v := 0) S dJ12_equals_7 kI_0 ?_
    refine ct_istore_n (L' := [(2, cz_i 0), (0, cz_r l0), (1, cz_r l1)]) S dJ12_equals_8 rfl (by decide) rfl ?_
    refine ct_sub [1, 2, 0] (L' := [(0, cz_r l0), (1, cz_r l1), (2, cz_i 0)]) rfl (wk_J12_equals_9 S ?_ ?_ 1000 0 h)
    · intro h7
      refine ct_iconst (v := 0) S dJ12_equals_24 kI_0 ?_
      exact ct_zr (ty := .boolean) S rfl rfl dJ12_equals_25
    · intro h8
      refine ct_iconst (v := 1) S dJ12_equals_32 kI_1 ?_
      exact ct_zr (ty := .boolean) S rfl rfl dJ12_equals_33
theorem mt_J12_equals {l : Launch} {D : cz_D} {l0 : Option Nat} {l1 : Option Nat} {h : cz_H} {oh : cz_O × cz_H} (hz : fn_J12_equals l0 l1 h = some oh) : cz_M l D yJ12_equals (ws_ yJ12_equals cJ12_equals 3 ((Option.some Jvm.ClassFile.FieldType.boolean))) 2 [cz_r l0, cz_r l1] h oh := cz_met (plainFor_of_name (by decide)) (Nat.le_of_ble_eq_true rfl) hz (fun K hl S => wk_J12_equals S)
/-! java/lang/String.equals(Ljava/lang/Object;)Z -/
def dkwJ8_equals_2 : List UInt8 := [184, 2, 29, 153, 0, 7, 4, 167, 0, 4, 3, 172]
abbrev dktJ8_equals_2 : List UInt8 := dkwJ8_equals_2 ++ []
def dkwJ8_equals_1 : List UInt8 := [153, 0, 14, 42, 180, 0, 15, 44, 180, 0, 15, 160, 0, 21, 42, 180, 0, 9, 44, 180, 0, 9]
abbrev dktJ8_equals_1 : List UInt8 := dkwJ8_equals_1 ++ dktJ8_equals_2
def dkwJ8_equals_0 : List UInt8 := [42, 43, 166, 0, 5, 4, 172, 43, 193, 0, 10, 153, 0, 43, 43, 192, 0, 10, 77, 178, 0, 38]
abbrev dktJ8_equals_0 : List UInt8 := dkwJ8_equals_0 ++ dktJ8_equals_1
theorem dksJ8_equals_0 : cJ8_equals.data.toList.drop 0 = dktJ8_equals_0 := by decide +kernel
theorem dksJ8_equals_1 : cJ8_equals.data.toList.drop 22 = dktJ8_equals_1 := dk_seg dksJ8_equals_0 22 rfl rfl
theorem dksJ8_equals_2 : cJ8_equals.data.toList.drop 44 = dktJ8_equals_2 := dk_seg dksJ8_equals_1 22 rfl rfl
theorem dJ8_equals_0 : decode cJ8_equals 0 = .ok (.aload_n 0, 1) := dk_42 (dk_at dksJ8_equals_0 0 rfl rfl)
theorem dJ8_equals_1 : decode cJ8_equals 1 = .ok (.aload_n 1, 1) := dk_43 (dk_at dksJ8_equals_0 1 rfl rfl)
theorem dJ8_equals_2 : decode cJ8_equals 2 = .ok (.if_acmp .ne 5, 3) := dk_166 0 5 (dk_at dksJ8_equals_0 2 rfl rfl)
theorem dJ8_equals_5 : decode cJ8_equals 5 = .ok (.iconst 1, 1) := dk_4 (dk_at dksJ8_equals_0 5 rfl rfl)
theorem dJ8_equals_6 : decode cJ8_equals 6 = .ok (.ireturn, 1) := dk_172 (dk_at dksJ8_equals_0 6 rfl rfl)
theorem dJ8_equals_7 : decode cJ8_equals 7 = .ok (.aload_n 1, 1) := dk_43 (dk_at dksJ8_equals_0 7 rfl rfl)
theorem dJ8_equals_8 : decode cJ8_equals 8 = .ok (.instanceof 10, 3) := dk_193 0 10 (dk_at dksJ8_equals_0 8 rfl rfl)
theorem dJ8_equals_11 : decode cJ8_equals 11 = .ok (.ifCond .eq 43, 3) := dk_153 0 43 (dk_at dksJ8_equals_0 11 rfl rfl)
theorem dJ8_equals_14 : decode cJ8_equals 14 = .ok (.aload_n 1, 1) := dk_43 (dk_at dksJ8_equals_0 14 rfl rfl)
theorem dJ8_equals_15 : decode cJ8_equals 15 = .ok (.checkcast 10, 3) := dk_192 0 10 (dk_at dksJ8_equals_0 15 rfl rfl)
theorem dJ8_equals_18 : decode cJ8_equals 18 = .ok (.astore_n 2, 1) := dk_77 (dk_at dksJ8_equals_0 18 rfl rfl)
theorem dJ8_equals_19 : decode cJ8_equals 19 = .ok (.getstatic 38, 3) := dk_178 0 38 (dk_at dksJ8_equals_0 19 rfl rfl)
theorem dJ8_equals_22 : decode cJ8_equals 22 = .ok (.ifCond .eq 14, 3) := dk_153 0 14 (dk_at dksJ8_equals_1 0 rfl rfl)
theorem dJ8_equals_25 : decode cJ8_equals 25 = .ok (.aload_n 0, 1) := dk_42 (dk_at dksJ8_equals_1 3 rfl rfl)
theorem dJ8_equals_26 : decode cJ8_equals 26 = .ok (.getfield 15, 3) := dk_180 0 15 (dk_at dksJ8_equals_1 4 rfl rfl)
theorem dJ8_equals_29 : decode cJ8_equals 29 = .ok (.aload_n 2, 1) := dk_44 (dk_at dksJ8_equals_1 7 rfl rfl)
theorem dJ8_equals_30 : decode cJ8_equals 30 = .ok (.getfield 15, 3) := dk_180 0 15 (dk_at dksJ8_equals_1 8 rfl rfl)
theorem dJ8_equals_33 : decode cJ8_equals 33 = .ok (.if_icmp .ne 21, 3) := dk_160 0 21 (dk_at dksJ8_equals_1 11 rfl rfl)
theorem dJ8_equals_36 : decode cJ8_equals 36 = .ok (.aload_n 0, 1) := dk_42 (dk_at dksJ8_equals_1 14 rfl rfl)
theorem dJ8_equals_37 : decode cJ8_equals 37 = .ok (.getfield 9, 3) := dk_180 0 9 (dk_at dksJ8_equals_1 15 rfl rfl)
theorem dJ8_equals_40 : decode cJ8_equals 40 = .ok (.aload_n 2, 1) := dk_44 (dk_at dksJ8_equals_1 18 rfl rfl)
theorem dJ8_equals_41 : decode cJ8_equals 41 = .ok (.getfield 9, 3) := dk_180 0 9 (dk_at dksJ8_equals_1 19 rfl rfl)
theorem dJ8_equals_44 : decode cJ8_equals 44 = .ok (.invokestatic 541, 3) := dk_184 2 29 (dk_at dksJ8_equals_2 0 rfl rfl)
theorem dJ8_equals_47 : decode cJ8_equals 47 = .ok (.ifCond .eq 7, 3) := dk_153 0 7 (dk_at dksJ8_equals_2 3 rfl rfl)
theorem dJ8_equals_50 : decode cJ8_equals 50 = .ok (.iconst 1, 1) := dk_4 (dk_at dksJ8_equals_2 6 rfl rfl)
theorem dJ8_equals_51 : decode cJ8_equals 51 = .ok (.goto 4, 3) := dk_167 0 4 (dk_at dksJ8_equals_2 7 rfl rfl)
theorem dJ8_equals_54 : decode cJ8_equals 54 = .ok (.iconst 0, 1) := dk_3 (dk_at dksJ8_equals_2 10 rfl rfl)
theorem dJ8_equals_55 : decode cJ8_equals 55 = .ok (.ireturn, 1) := dk_172 (dk_at dksJ8_equals_2 11 rfl rfl)
theorem ca_java_lang_String : cz_cs [8] "java/lang/String" := List.forall_mem_cons.mpr ⟨⟨_, cz_cl8, Or.inl rfl⟩, fun _ h => absurd h List.not_mem_nil⟩
theorem md_J12_equals : cz_md yJ12_equals 3 (ws_ yJ12_equals cJ12_equals 3 ((Option.some Jvm.ClassFile.FieldType.boolean))) 2 := ⟨cz_ws_code q735, q133, ⟨by decide, by decide, by decide +kernel⟩, by decide⟩
set_option maxHeartbeats 4000000 in
set_option maxRecDepth 100000 in
noncomputable def fn_J8_equals (l0 : Option Nat) (l1 : Option Nat) (h : cz_H) : cz_Z := (if l0 = l1 then some (.inl (some (cz_i 1)), h) else cz_inst h l1 [8] (fun x1 => (if x1 = 0 then some (.inl (some (cz_i 0)), h) else cz_cast h l1 [8] (cz_jn (fun (h2 : cz_H) => cz_getR h2 l0 [(8, 0)] (fun r3 => cz_getR h2 l1 [(8, 0)] (fun r4 => cz_cI (fn_J12_equals r3 r4 h2) (fun x6 h5 => (if x6 = 0 then some (.inl (some (cz_i 0)), h5) else some (.inl (some (cz_i 1)), h5)))))) (fun j7 => (if (1 : Int32) = 0 then j7 h else cz_getI h l0 [(8, 1)] (fun x8 => cz_getI h l1 [(8, 1)] (fun x9 => (if x8 = x9 then j7 h else some (.inl (some (cz_i 0)), h))))))))))
set_option maxHeartbeats 4000000 in
set_option maxRecDepth 100000 in
theorem wk_J8_equals {K : cz_K} {D : cz_D} {h0 : cz_H} {oh : cz_O × cz_H} {l0 : Option Nat} {l1 : Option Nat} {h : cz_H} (S : cz_S K D h0 cJ8_equals 3 "java/lang/String" ((Option.some Jvm.ClassFile.FieldType.boolean)) "equals" ([])) : cz_T K D 3 h0 oh 3 (fn_J8_equals l0 l1 h) h 0 [(0, cz_r l0), (1, cz_r l1)] [] := by
  unfold fn_J8_equals
  refine ct_aload_n (k := 0) S dJ8_equals_0 rfl rfl ?_
  refine ct_aload_n (k := 1) S dJ8_equals_1 rfl rfl ?_
  refine ct_acmp_ne (tgt := 7) S dJ8_equals_2 (by decide) ?_ ?_
  · refine ct_aload_n (k := 1) S dJ8_equals_7 rfl rfl ?_
    refine ct_inst S q732 ca_java_lang_String dJ8_equals_8 (fun x1 => ?_)
    refine ct_if_eq (tgt := 54) S dJ8_equals_11 (by decide) ?_ ?_
    · refine ct_iconst (v := 0) S dJ8_equals_54 kI_0 ?_
      exact ct_zr (ty := .boolean) S rfl rfl dJ8_equals_55
    · refine ct_aload_n (k := 1) S dJ8_equals_14 rfl rfl ?_
      refine ct_cast S q732 ca_java_lang_String dJ8_equals_15 ?_
      refine ct_astore_n (L' := [(2, cz_r l1), (0, cz_r l0), (1, cz_r l1)]) S dJ8_equals_18 rfl (by decide) rfl ?_
      refine ct_gets (i := 0) S rfl q692 dJ8_equals_19 ?_
      refine ct_jnP (fun j7 => ∀ (h2 : cz_H), cz_T K D 3 h0 oh 3 (j7 h2) h2 36 [(0, cz_r l0), (2, cz_r l1)] []) (fun h2 => ?_) (fun j7 Hj7 => ?_)
      · refine ct_aload_n (k := 0) S dJ8_equals_36 rfl rfl ?_
        refine ct_getR S fw_J8_9 dJ8_equals_37 (fun r3 => ?_)
        refine ct_aload_n (k := 1) S dJ8_equals_40 rfl rfl ?_
        refine ct_getR S fw_J8_9 dJ8_equals_41 (fun r4 => ?_)
        refine ct_cI (st := []) (cg_static (av := [cz_r r3, cz_r r4]) S (fun _ e => mt_J12_equals e) md_J12_equals (Or.inl q733) q734 (by decide) (Nat.le_of_ble_eq_true rfl) rfl dJ8_equals_44) (fun x6 h5 => ?_)
        refine ct_if_eq (tgt := 54) S dJ8_equals_47 (by decide) ?_ ?_
        · refine ct_iconst (v := 0) S dJ8_equals_54 kI_0 ?_
          exact ct_zr (ty := .boolean) S rfl rfl dJ8_equals_55
        · refine ct_iconst (v := 1) S dJ8_equals_50 kI_1 ?_
          refine ct_goto (tgt := 55) S dJ8_equals_51 (by decide) ?_
          exact ct_zr (ty := .boolean) S rfl rfl dJ8_equals_55
      · refine ct_if_eq (tgt := 36) S dJ8_equals_22 (by decide) ?_ ?_
        · exact ct_sub [1, 0] rfl (Hj7 h)
        · refine ct_aload_n (k := 1) S dJ8_equals_25 rfl rfl ?_
          refine ct_getI S fw_J8_15 dJ8_equals_26 (fun x8 => ?_)
          refine ct_aload_n (k := 0) S dJ8_equals_29 rfl rfl ?_
          refine ct_getI S fw_J8_15 dJ8_equals_30 (fun x9 => ?_)
          refine ct_icmp_ne (tgt := 54) S dJ8_equals_33 (by decide) ?_ ?_
          · refine ct_iconst (v := 0) S dJ8_equals_54 kI_0 ?_
            exact ct_zr (ty := .boolean) S rfl rfl dJ8_equals_55
          · exact ct_sub [1, 0] rfl (Hj7 h)
  · refine ct_iconst (v := 1) S dJ8_equals_5 kI_1 ?_
    exact ct_zr (ty := .boolean) S rfl rfl dJ8_equals_6
theorem mt_J8_equals {l : Launch} {D : cz_D} {l0 : Option Nat} {l1 : Option Nat} {h : cz_H} {oh : cz_O × cz_H} (hz : fn_J8_equals l0 l1 h = some oh) : cz_M l D yJ8_equals (ws_ yJ8_equals cJ8_equals 3 ((Option.some Jvm.ClassFile.FieldType.boolean))) 3 [cz_r l0, cz_r l1] h oh := cz_met (plainFor_of_name (by decide)) (Nat.le_of_ble_eq_true rfl) hz (fun K hl S => wk_J8_equals S)
/-! HeldCoats$Reader.is(Ljava/lang/String;)Z -/
def dkwX6_is_1 : List UInt8 := [172]
abbrev dktX6_is_1 : List UInt8 := dkwX6_is_1 ++ []
def dkwX6_is_0 : List UInt8 := [42, 180, 0, 38, 5, 160, 0, 18, 42, 180, 0, 11, 43, 182, 0, 70, 153, 0, 7, 4, 167, 0, 4, 3]
abbrev dktX6_is_0 : List UInt8 := dkwX6_is_0 ++ dktX6_is_1
theorem dksX6_is_0 : cX6_is.data.toList.drop 0 = dktX6_is_0 := by decide +kernel
theorem dksX6_is_1 : cX6_is.data.toList.drop 24 = dktX6_is_1 := dk_seg dksX6_is_0 24 rfl rfl
theorem dX6_is_0 : decode cX6_is 0 = .ok (.aload_n 0, 1) := dk_42 (dk_at dksX6_is_0 0 rfl rfl)
theorem dX6_is_1 : decode cX6_is 1 = .ok (.getfield 38, 3) := dk_180 0 38 (dk_at dksX6_is_0 1 rfl rfl)
theorem dX6_is_4 : decode cX6_is 4 = .ok (.iconst 2, 1) := dk_5 (dk_at dksX6_is_0 4 rfl rfl)
theorem dX6_is_5 : decode cX6_is 5 = .ok (.if_icmp .ne 18, 3) := dk_160 0 18 (dk_at dksX6_is_0 5 rfl rfl)
theorem dX6_is_8 : decode cX6_is 8 = .ok (.aload_n 0, 1) := dk_42 (dk_at dksX6_is_0 8 rfl rfl)
theorem dX6_is_9 : decode cX6_is 9 = .ok (.getfield 11, 3) := dk_180 0 11 (dk_at dksX6_is_0 9 rfl rfl)
theorem dX6_is_12 : decode cX6_is 12 = .ok (.aload_n 1, 1) := dk_43 (dk_at dksX6_is_0 12 rfl rfl)
theorem dX6_is_13 : decode cX6_is 13 = .ok (.invokevirtual 70, 3) := dk_182 0 70 (dk_at dksX6_is_0 13 rfl rfl)
theorem dX6_is_16 : decode cX6_is 16 = .ok (.ifCond .eq 7, 3) := dk_153 0 7 (dk_at dksX6_is_0 16 rfl rfl)
theorem dX6_is_19 : decode cX6_is 19 = .ok (.iconst 1, 1) := dk_4 (dk_at dksX6_is_0 19 rfl rfl)
theorem dX6_is_20 : decode cX6_is 20 = .ok (.goto 4, 3) := dk_167 0 4 (dk_at dksX6_is_0 20 rfl rfl)
theorem dX6_is_23 : decode cX6_is 23 = .ok (.iconst 0, 1) := dk_3 (dk_at dksX6_is_0 23 rfl rfl)
theorem dX6_is_24 : decode cX6_is 24 = .ok (.ireturn, 1) := dk_172 (dk_at dksX6_is_1 0 rfl rfl)
theorem se_java_lang_String_equals__Ljava_lang_Object__Z_java_lang_String : ∀ c ∈ ([8] : List Nat), ∃ q : vw_C, cz_cl[c]? = some q ∧ Cond.selects q.1 (⟨"java/lang/String", "equals", "(Ljava/lang/Object;)Z"⟩ : MethodName) (⟨"java/lang/String", "equals", "(Ljava/lang/Object;)Z"⟩ : MethodName) ∈ lw_all := List.forall_mem_cons.mpr ⟨⟨_, cz_cl8, q730⟩, fun _ h => absurd h List.not_mem_nil⟩
theorem md_J8_equals : cz_md yJ8_equals 3 (ws_ yJ8_equals cJ8_equals 3 ((Option.some Jvm.ClassFile.FieldType.boolean))) 1 := ⟨cz_ws_code q731, q128, ⟨by decide, by decide, by decide +kernel⟩, by decide⟩
set_option maxHeartbeats 4000000 in
set_option maxRecDepth 100000 in
noncomputable def fn_X6_is (l0 : Option Nat) (l1 : Option Nat) (h : cz_H) : cz_Z := cz_getI h l0 [(6, 4), (16, 4), (18, 4)] (fun x1 => (if x1 = 2 then cz_getR h l0 [(6, 8), (16, 8), (18, 8)] (fun r2 => cz_rc h r2 [8] (cz_cI (fn_J8_equals r2 l1 h) (fun x10 h9 => (if x10 = 0 then some (.inl (some (cz_i 0)), h9) else some (.inl (some (cz_i 1)), h9))))) else some (.inl (some (cz_i 0)), h)))
set_option maxHeartbeats 4000000 in
set_option maxRecDepth 100000 in
theorem wk_X6_is {K : cz_K} {D : cz_D} {h0 : cz_H} {oh : cz_O × cz_H} {l0 : Option Nat} {l1 : Option Nat} {h : cz_H} (S : cz_S K D h0 cX6_is 2 "HeldCoats$Reader" ((Option.some Jvm.ClassFile.FieldType.boolean)) "is" ([])) : cz_T K D 4 h0 oh 2 (fn_X6_is l0 l1 h) h 0 [(0, cz_r l0), (1, cz_r l1)] [] := by
  unfold fn_X6_is
  refine ct_aload_n (k := 0) S dX6_is_0 rfl rfl ?_
  refine ct_getI S fw_X6_38 dX6_is_1 (fun x1 => ?_)
  refine ct_iconst (v := 2) S dX6_is_4 kI_2 ?_
  refine ct_icmp_ne (tgt := 23) S dX6_is_5 (by decide) ?_ ?_
  · refine ct_iconst (v := 0) S dX6_is_23 kI_0 ?_
    exact ct_zr (ty := .boolean) S rfl rfl dX6_is_24
  · refine ct_aload_n (k := 0) S dX6_is_8 rfl rfl ?_
    refine ct_getR S fw_X6_11 dX6_is_9 (fun r2 => ?_)
    refine ct_aload_n (k := 1) S dX6_is_12 rfl rfl ?_
    refine ct_rc (fun b3 ci4 V5 hb6 hc7 hi8 => ?_)
    refine ct_cI (st := []) (cg_virtual (av := [cz_r l1]) S hb6 hc7 hi8 (fun _ e => mt_J8_equals e) md_J8_equals q728 q729 se_java_lang_String_equals__Ljava_lang_Object__Z_java_lang_String (by decide) (Nat.le_of_ble_eq_true rfl) rfl dX6_is_13) (fun x10 h9 => ?_)
    refine ct_if_eq (tgt := 23) S dX6_is_16 (by decide) ?_ ?_
    · refine ct_iconst (v := 0) S dX6_is_23 kI_0 ?_
      exact ct_zr (ty := .boolean) S rfl rfl dX6_is_24
    · refine ct_iconst (v := 1) S dX6_is_19 kI_1 ?_
      refine ct_goto (tgt := 24) S dX6_is_20 (by decide) ?_
      exact ct_zr (ty := .boolean) S rfl rfl dX6_is_24
theorem mt_X6_is {l : Launch} {D : cz_D} {l0 : Option Nat} {l1 : Option Nat} {h : cz_H} {oh : cz_O × cz_H} (hz : fn_X6_is l0 l1 h = some oh) : cz_M l D yX6_is (ws_ yX6_is cX6_is 2 ((Option.some Jvm.ClassFile.FieldType.boolean))) 4 [cz_r l0, cz_r l1] h oh := cz_met (plainFor_of_name (by decide)) (Nat.le_of_ble_eq_true rfl) hz (fun K hl S => wk_X6_is S)
/-! java/lang/Throwable.<init>(Ljava/lang/String;Ljava/lang/Throwable;ZZ)V -/
def dkwJ13_init_2_2 : List UInt8 := [44, 181, 0, 7, 29, 154, 0, 8, 42, 1, 181, 0, 24, 177]
abbrev dktJ13_init_2_2 : List UInt8 := dkwJ13_init_2_2 ++ []
def dkwJ13_init_2_1 : List UInt8 := [21, 4, 153, 0, 11, 42, 182, 0, 27, 87, 167, 0, 8, 42, 1, 181, 0, 17, 42, 43, 181, 0, 31, 42]
abbrev dktJ13_init_2_1 : List UInt8 := dkwJ13_init_2_1 ++ dktJ13_init_2_2
def dkwJ13_init_2_0 : List UInt8 := [42, 183, 0, 1, 42, 42, 181, 0, 7, 42, 178, 0, 13, 181, 0, 17, 42, 178, 0, 20, 181, 0, 24]
abbrev dktJ13_init_2_0 : List UInt8 := dkwJ13_init_2_0 ++ dktJ13_init_2_1
theorem dksJ13_init_2_0 : cJ13_init_2.data.toList.drop 0 = dktJ13_init_2_0 := by decide +kernel
theorem dksJ13_init_2_1 : cJ13_init_2.data.toList.drop 23 = dktJ13_init_2_1 := dk_seg dksJ13_init_2_0 23 rfl rfl
theorem dksJ13_init_2_2 : cJ13_init_2.data.toList.drop 47 = dktJ13_init_2_2 := dk_seg dksJ13_init_2_1 24 rfl rfl
theorem dJ13_init_2_0 : decode cJ13_init_2 0 = .ok (.aload_n 0, 1) := dk_42 (dk_at dksJ13_init_2_0 0 rfl rfl)
theorem dJ13_init_2_1 : decode cJ13_init_2 1 = .ok (.invokespecial 1, 3) := dk_183 0 1 (dk_at dksJ13_init_2_0 1 rfl rfl)
theorem dJ13_init_2_4 : decode cJ13_init_2 4 = .ok (.aload_n 0, 1) := dk_42 (dk_at dksJ13_init_2_0 4 rfl rfl)
theorem dJ13_init_2_5 : decode cJ13_init_2 5 = .ok (.aload_n 0, 1) := dk_42 (dk_at dksJ13_init_2_0 5 rfl rfl)
theorem dJ13_init_2_6 : decode cJ13_init_2 6 = .ok (.putfield 7, 3) := dk_181 0 7 (dk_at dksJ13_init_2_0 6 rfl rfl)
theorem dJ13_init_2_9 : decode cJ13_init_2 9 = .ok (.aload_n 0, 1) := dk_42 (dk_at dksJ13_init_2_0 9 rfl rfl)
theorem dJ13_init_2_10 : decode cJ13_init_2 10 = .ok (.getstatic 13, 3) := dk_178 0 13 (dk_at dksJ13_init_2_0 10 rfl rfl)
theorem dJ13_init_2_13 : decode cJ13_init_2 13 = .ok (.putfield 17, 3) := dk_181 0 17 (dk_at dksJ13_init_2_0 13 rfl rfl)
theorem dJ13_init_2_16 : decode cJ13_init_2 16 = .ok (.aload_n 0, 1) := dk_42 (dk_at dksJ13_init_2_0 16 rfl rfl)
theorem dJ13_init_2_17 : decode cJ13_init_2 17 = .ok (.getstatic 20, 3) := dk_178 0 20 (dk_at dksJ13_init_2_0 17 rfl rfl)
theorem dJ13_init_2_20 : decode cJ13_init_2 20 = .ok (.putfield 24, 3) := dk_181 0 24 (dk_at dksJ13_init_2_0 20 rfl rfl)
theorem dJ13_init_2_23 : decode cJ13_init_2 23 = .ok (.iload 4, 2) := dk_21 4 (dk_at dksJ13_init_2_1 0 rfl rfl)
theorem dJ13_init_2_25 : decode cJ13_init_2 25 = .ok (.ifCond .eq 11, 3) := dk_153 0 11 (dk_at dksJ13_init_2_1 2 rfl rfl)
theorem dJ13_init_2_28 : decode cJ13_init_2 28 = .ok (.aload_n 0, 1) := dk_42 (dk_at dksJ13_init_2_1 5 rfl rfl)
theorem dJ13_init_2_29 : decode cJ13_init_2 29 = .ok (.invokevirtual 27, 3) := dk_182 0 27 (dk_at dksJ13_init_2_1 6 rfl rfl)
theorem dJ13_init_2_32 : decode cJ13_init_2 32 = .ok (.pop, 1) := dk_87 (dk_at dksJ13_init_2_1 9 rfl rfl)
theorem dJ13_init_2_33 : decode cJ13_init_2 33 = .ok (.goto 8, 3) := dk_167 0 8 (dk_at dksJ13_init_2_1 10 rfl rfl)
theorem dJ13_init_2_36 : decode cJ13_init_2 36 = .ok (.aload_n 0, 1) := dk_42 (dk_at dksJ13_init_2_1 13 rfl rfl)
theorem dJ13_init_2_37 : decode cJ13_init_2 37 = .ok (.aconst_null, 1) := dk_1 (dk_at dksJ13_init_2_1 14 rfl rfl)
theorem dJ13_init_2_38 : decode cJ13_init_2 38 = .ok (.putfield 17, 3) := dk_181 0 17 (dk_at dksJ13_init_2_1 15 rfl rfl)
theorem dJ13_init_2_41 : decode cJ13_init_2 41 = .ok (.aload_n 0, 1) := dk_42 (dk_at dksJ13_init_2_1 18 rfl rfl)
theorem dJ13_init_2_42 : decode cJ13_init_2 42 = .ok (.aload_n 1, 1) := dk_43 (dk_at dksJ13_init_2_1 19 rfl rfl)
theorem dJ13_init_2_43 : decode cJ13_init_2 43 = .ok (.putfield 31, 3) := dk_181 0 31 (dk_at dksJ13_init_2_1 20 rfl rfl)
theorem dJ13_init_2_46 : decode cJ13_init_2 46 = .ok (.aload_n 0, 1) := dk_42 (dk_at dksJ13_init_2_1 23 rfl rfl)
theorem dJ13_init_2_47 : decode cJ13_init_2 47 = .ok (.aload_n 2, 1) := dk_44 (dk_at dksJ13_init_2_2 0 rfl rfl)
theorem dJ13_init_2_48 : decode cJ13_init_2 48 = .ok (.putfield 7, 3) := dk_181 0 7 (dk_at dksJ13_init_2_2 1 rfl rfl)
theorem dJ13_init_2_51 : decode cJ13_init_2 51 = .ok (.iload_n 3, 1) := dk_29 (dk_at dksJ13_init_2_2 4 rfl rfl)
theorem dJ13_init_2_52 : decode cJ13_init_2 52 = .ok (.ifCond .ne 8, 3) := dk_154 0 8 (dk_at dksJ13_init_2_2 5 rfl rfl)
theorem dJ13_init_2_55 : decode cJ13_init_2 55 = .ok (.aload_n 0, 1) := dk_42 (dk_at dksJ13_init_2_2 8 rfl rfl)
theorem dJ13_init_2_56 : decode cJ13_init_2 56 = .ok (.aconst_null, 1) := dk_1 (dk_at dksJ13_init_2_2 9 rfl rfl)
theorem dJ13_init_2_57 : decode cJ13_init_2 57 = .ok (.putfield 24, 3) := dk_181 0 24 (dk_at dksJ13_init_2_2 10 rfl rfl)
theorem dJ13_init_2_60 : decode cJ13_init_2 60 = .ok (.return_, 1) := dk_177 (dk_at dksJ13_init_2_2 13 rfl rfl)
theorem fw_J13_7 : cz_FW "java/lang/Throwable" 7 [(9, 0)] "Ljava/lang/Throwable;" := ⟨"java/lang/Throwable", "cause", Or.inl q804, List.forall_mem_cons.mpr ⟨⟨RX8, TX8, 8, rfl, by decide, rfl, rfl, Or.inl rfl⟩, fun _ h => absurd h List.not_mem_nil⟩, by decide⟩
theorem fp_J13_i_9_0 : cz_FP "java/lang/Throwable" "<init>" [(9, 0)] := List.forall_mem_cons.mpr ⟨⟨RX8, TX8, 8, rfl, Or.inl rfl⟩, fun _ h => absurd h List.not_mem_nil⟩
theorem pd_Ljava_lang_Throwable_ : parseFieldDescriptor "Ljava/lang/Throwable;" = some (.object "java/lang/Throwable") := by decide +kernel
theorem fw_J13_17 : cz_FW "java/lang/Throwable" 17 [(9, 1)] "[Ljava/lang/StackTraceElement;" := ⟨"java/lang/Throwable", "stackTrace", Or.inl q805, List.forall_mem_cons.mpr ⟨⟨RX8, TX8, 8, rfl, by decide, rfl, rfl, Or.inl rfl⟩, fun _ h => absurd h List.not_mem_nil⟩, by decide⟩
theorem fp_J13_i_9_1 : cz_FP "java/lang/Throwable" "<init>" [(9, 1)] := List.forall_mem_cons.mpr ⟨⟨RX8, TX8, 8, rfl, Or.inl rfl⟩, fun _ h => absurd h List.not_mem_nil⟩
theorem pd__Ljava_lang_StackTraceElement_ : parseFieldDescriptor "[Ljava/lang/StackTraceElement;" = some (.array (.object "java/lang/StackTraceElement")) := by decide +kernel
theorem fw_J13_24 : cz_FW "java/lang/Throwable" 24 [(9, 2)] "Ljava/util/List;" := ⟨"java/lang/Throwable", "suppressedExceptions", Or.inl q806, List.forall_mem_cons.mpr ⟨⟨RX8, TX8, 8, rfl, by decide, rfl, rfl, Or.inl rfl⟩, fun _ h => absurd h List.not_mem_nil⟩, by decide⟩
theorem fp_J13_i_9_2 : cz_FP "java/lang/Throwable" "<init>" [(9, 2)] := List.forall_mem_cons.mpr ⟨⟨RX8, TX8, 8, rfl, Or.inl rfl⟩, fun _ h => absurd h List.not_mem_nil⟩
theorem pd_Ljava_util_List_ : parseFieldDescriptor "Ljava/util/List;" = some (.object "java/util/List") := by decide +kernel
theorem fw_J13_31 : cz_FW "java/lang/Throwable" 31 [(9, 3)] "Ljava/lang/String;" := ⟨"java/lang/Throwable", "detailMessage", Or.inl q803, List.forall_mem_cons.mpr ⟨⟨RX8, TX8, 8, rfl, by decide, rfl, rfl, Or.inl rfl⟩, fun _ h => absurd h List.not_mem_nil⟩, by decide⟩
theorem fp_J13_i_9_3 : cz_FP "java/lang/Throwable" "<init>" [(9, 3)] := List.forall_mem_cons.mpr ⟨⟨RX8, TX8, 8, rfl, Or.inl rfl⟩, fun _ h => absurd h List.not_mem_nil⟩
set_option maxHeartbeats 4000000 in
set_option maxRecDepth 100000 in
noncomputable def fn_J13_init_2 (l0 : Option Nat) (l1 : Option Nat) (l2 : Option Nat) (l3 : Int32) (l4 : Int32) (h : cz_H) : cz_Z := cz_nn' l0 (cz_put h l0 [(9, 0)] (cz_r l0) (fun h1 => cz_put h1 l0 [(9, 1)] (cz_r (h1.1.2.2.2 28)) (fun h2 => cz_put h2 l0 [(9, 2)] (cz_r (h2.1.2.2.2 29)) (fun h3 => (if l4 = 0 then cz_put h3 l0 [(9, 1)] (cz_r none) (fun h4 => cz_put h4 l0 [(9, 3)] (cz_r l1) (fun h5 => cz_put h5 l0 [(9, 0)] (cz_r l2) (fun h6 => (if l3 = 0 then cz_put h6 l0 [(9, 2)] (cz_r none) (fun h7 => some (.inl none, h7)) else some (.inl none, h6))))) else none)))))
set_option maxHeartbeats 4000000 in
set_option maxRecDepth 100000 in
theorem wk_J13_init_2 {K : cz_K} {D : cz_D} {h0 : cz_H} {oh : cz_O × cz_H} {l0 : Option Nat} {l1 : Option Nat} {l2 : Option Nat} {l3 : Int32} {l4 : Int32} {h : cz_H} (S : cz_S K D h0 cJ13_init_2 5 "java/lang/Throwable" ((Option.none : Option Jvm.ClassFile.FieldType)) "<init>" ([])) : cz_T K D 3 h0 oh 5 (fn_J13_init_2 l0 l1 l2 l3 l4 h) h 0 [(0, cz_r l0), (1, cz_r l1), (2, cz_r l2), (3, cz_i l3), (4, cz_i l4)] [] := by
  unfold fn_J13_init_2
  refine ct_aload_n (k := 0) S dJ13_init_2_0 rfl rfl ?_
  refine ct_oinit S q774 q165 q166 (by decide) (Nat.le_of_ble_eq_true rfl) dJ13_init_2_1 ?_
  refine ct_aload_n (k := 0) S dJ13_init_2_4 rfl rfl ?_
  refine ct_aload_n (k := 0) S dJ13_init_2_5 rfl rfl ?_
  refine ct_put S fw_J13_7 fp_J13_i_9_0 (cz_fits_r pd_Ljava_lang_Throwable_) dJ13_init_2_6 (fun h1 => ?_)
  refine ct_aload_n (k := 0) S dJ13_init_2_9 rfl rfl ?_
  refine ct_getsR (i := 2) (j := 28) S rfl q775 dJ13_init_2_10 ?_
  refine ct_put S fw_J13_17 fp_J13_i_9_1 (cz_fits_a pd__Ljava_lang_StackTraceElement_) dJ13_init_2_13 (fun h2 => ?_)
  refine ct_aload_n (k := 0) S dJ13_init_2_16 rfl rfl ?_
  refine ct_getsR (i := 3) (j := 29) S rfl q777 dJ13_init_2_17 ?_
  refine ct_put S fw_J13_24 fp_J13_i_9_2 (cz_fits_r pd_Ljava_util_List_) dJ13_init_2_20 (fun h3 => ?_)
  refine ct_iload (k := 4) S dJ13_init_2_23 rfl ?_
  refine ct_if_eq (tgt := 36) S dJ13_init_2_25 (by decide) ?_ ?_
  · refine ct_aload_n (k := 0) S dJ13_init_2_36 rfl rfl ?_
    refine ct_null S dJ13_init_2_37 ?_
    refine ct_put S fw_J13_17 fp_J13_i_9_1 (cz_fits_a pd__Ljava_lang_StackTraceElement_) dJ13_init_2_38 (fun h4 => ?_)
    refine ct_aload_n (k := 0) S dJ13_init_2_41 rfl rfl ?_
    refine ct_aload_n (k := 1) S dJ13_init_2_42 rfl rfl ?_
    refine ct_put S fw_J13_31 fp_J13_i_9_3 (cz_fits_r pd_Ljava_lang_String_) dJ13_init_2_43 (fun h5 => ?_)
    refine ct_aload_n (k := 0) S dJ13_init_2_46 rfl rfl ?_
    refine ct_aload_n (k := 2) S dJ13_init_2_47 rfl rfl ?_
    refine ct_put S fw_J13_7 fp_J13_i_9_0 (cz_fits_r pd_Ljava_lang_Throwable_) dJ13_init_2_48 (fun h6 => ?_)
    refine ct_iload_n (k := 3) S dJ13_init_2_51 rfl rfl ?_
    refine ct_if_ne (tgt := 60) S dJ13_init_2_52 (by decide) ?_ ?_
    · exact ct_vret S rfl dJ13_init_2_60
    · refine ct_aload_n (k := 0) S dJ13_init_2_55 rfl rfl ?_
      refine ct_null S dJ13_init_2_56 ?_
      refine ct_put S fw_J13_24 fp_J13_i_9_2 (cz_fits_r pd_Ljava_util_List_) dJ13_init_2_57 (fun h7 => ?_)
      exact ct_vret S rfl dJ13_init_2_60
  · refine ct_aload_n (k := 0) S dJ13_init_2_28 rfl rfl ?_
    exact ct_none
theorem mt_J13_init_2 {l : Launch} {D : cz_D} {l0 : Option Nat} {l1 : Option Nat} {l2 : Option Nat} {l3 : Int32} {l4 : Int32} {h : cz_H} {oh : cz_O × cz_H} (hz : fn_J13_init_2 l0 l1 l2 l3 l4 h = some oh) : cz_M l D yJ13_init_2 (ws_ yJ13_init_2 cJ13_init_2 5 ((Option.none : Option Jvm.ClassFile.FieldType))) 3 [cz_r l0, cz_r l1, cz_r l2, cz_i l3, cz_i l4] h oh := cz_met (plainFor_of_name (by decide)) (Nat.le_of_ble_eq_true rfl) hz (fun K hl S => wk_J13_init_2 S)
/-! java/lang/Exception.<init>(Ljava/lang/String;Ljava/lang/Throwable;ZZ)V -/
def dkwJ14_init_0 : List UInt8 := [42, 43, 44, 29, 21, 4, 183, 0, 16, 177]
abbrev dktJ14_init_0 : List UInt8 := dkwJ14_init_0 ++ []
theorem dksJ14_init_0 : cJ14_init.data.toList.drop 0 = dktJ14_init_0 := by decide +kernel
theorem dJ14_init_0 : decode cJ14_init 0 = .ok (.aload_n 0, 1) := dk_42 (dk_at dksJ14_init_0 0 rfl rfl)
theorem dJ14_init_1 : decode cJ14_init 1 = .ok (.aload_n 1, 1) := dk_43 (dk_at dksJ14_init_0 1 rfl rfl)
theorem dJ14_init_2 : decode cJ14_init 2 = .ok (.aload_n 2, 1) := dk_44 (dk_at dksJ14_init_0 2 rfl rfl)
theorem dJ14_init_3 : decode cJ14_init 3 = .ok (.iload_n 3, 1) := dk_29 (dk_at dksJ14_init_0 3 rfl rfl)
theorem dJ14_init_4 : decode cJ14_init 4 = .ok (.iload 4, 2) := dk_21 4 (dk_at dksJ14_init_0 4 rfl rfl)
theorem dJ14_init_6 : decode cJ14_init 6 = .ok (.invokespecial 16, 3) := dk_183 0 16 (dk_at dksJ14_init_0 6 rfl rfl)
theorem dJ14_init_9 : decode cJ14_init 9 = .ok (.return_, 1) := dk_177 (dk_at dksJ14_init_0 9 rfl rfl)
theorem nh_java_lang_Throwable__init___Ljava_lang_String_Ljava_lang_Throwable_ZZ_V : cz_nh ⟨"java/lang/Throwable", "<init>", "(Ljava/lang/String;Ljava/lang/Throwable;ZZ)V"⟩ 4 := ⟨by decide, by decide, by decide +kernel⟩
set_option maxHeartbeats 4000000 in
set_option maxRecDepth 100000 in
noncomputable def fn_J14_init (l0 : Option Nat) (l1 : Option Nat) (l2 : Option Nat) (l3 : Int32) (l4 : Int32) (h : cz_H) : cz_Z := cz_nn' l0 (cz_cV (fn_J13_init_2 l0 l1 l2 l3 l4 h) (fun h3 => some (.inl none, h3)))
set_option maxHeartbeats 4000000 in
set_option maxRecDepth 100000 in
theorem wk_J14_init {K : cz_K} {D : cz_D} {h0 : cz_H} {oh : cz_O × cz_H} {l0 : Option Nat} {l1 : Option Nat} {l2 : Option Nat} {l3 : Int32} {l4 : Int32} {h : cz_H} (S : cz_S K D h0 cJ14_init 5 "java/lang/Exception" ((Option.none : Option Jvm.ClassFile.FieldType)) "<init>" ([])) : cz_T K D 4 h0 oh 5 (fn_J14_init l0 l1 l2 l3 l4 h) h 0 [(0, cz_r l0), (1, cz_r l1), (2, cz_r l2), (3, cz_i l3), (4, cz_i l4)] [] := by
  unfold fn_J14_init
  refine ct_aload_n (k := 0) S dJ14_init_0 rfl rfl ?_
  refine ct_aload_n (k := 1) S dJ14_init_1 rfl rfl ?_
  refine ct_aload_n (k := 2) S dJ14_init_2 rfl rfl ?_
  refine ct_iload_n (k := 3) S dJ14_init_3 rfl rfl ?_
  refine ct_iload (k := 4) S dJ14_init_4 rfl ?_
  refine ct_nn (fun b1 hb2 => ?_)
  refine ct_cV (st := []) (cg_init (av := [cz_r l1, cz_r l2, cz_i l3, cz_i l4]) S hb2 (fun _ e => mt_J13_init_2 e) q797 (Or.inl q795) rfl q796 q134 nh_java_lang_Throwable__init___Ljava_lang_String_Ljava_lang_Throwable_ZZ_V (by decide) (by decide) (Nat.le_of_ble_eq_true rfl) rfl dJ14_init_6) (fun h3 => ?_)
  exact ct_vret S rfl dJ14_init_9
theorem mt_J14_init {l : Launch} {D : cz_D} {l0 : Option Nat} {l1 : Option Nat} {l2 : Option Nat} {l3 : Int32} {l4 : Int32} {h : cz_H} {oh : cz_O × cz_H} (hz : fn_J14_init l0 l1 l2 l3 l4 h = some oh) : cz_M l D yJ14_init (ws_ yJ14_init cJ14_init 5 ((Option.none : Option Jvm.ClassFile.FieldType))) 4 [cz_r l0, cz_r l1, cz_r l2, cz_i l3, cz_i l4] h oh := cz_met (plainFor_of_name (by decide)) (Nat.le_of_ble_eq_true rfl) hz (fun K hl S => wk_J14_init S)
/-! HeldCoats$Fault.<init>(II)V -/
def dkwX8_init_0 : List UInt8 := [42, 1, 1, 3, 3, 183, 0, 1, 42, 27, 181, 0, 7, 42, 28, 181, 0, 13, 177]
abbrev dktX8_init_0 : List UInt8 := dkwX8_init_0 ++ []
theorem dksX8_init_0 : cX8_init.data.toList.drop 0 = dktX8_init_0 := by decide +kernel
theorem dX8_init_0 : decode cX8_init 0 = .ok (.aload_n 0, 1) := dk_42 (dk_at dksX8_init_0 0 rfl rfl)
theorem dX8_init_1 : decode cX8_init 1 = .ok (.aconst_null, 1) := dk_1 (dk_at dksX8_init_0 1 rfl rfl)
theorem dX8_init_2 : decode cX8_init 2 = .ok (.aconst_null, 1) := dk_1 (dk_at dksX8_init_0 2 rfl rfl)
theorem dX8_init_3 : decode cX8_init 3 = .ok (.iconst 0, 1) := dk_3 (dk_at dksX8_init_0 3 rfl rfl)
theorem dX8_init_4 : decode cX8_init 4 = .ok (.iconst 0, 1) := dk_3 (dk_at dksX8_init_0 4 rfl rfl)
theorem dX8_init_5 : decode cX8_init 5 = .ok (.invokespecial 1, 3) := dk_183 0 1 (dk_at dksX8_init_0 5 rfl rfl)
theorem dX8_init_8 : decode cX8_init 8 = .ok (.aload_n 0, 1) := dk_42 (dk_at dksX8_init_0 8 rfl rfl)
theorem dX8_init_9 : decode cX8_init 9 = .ok (.iload_n 1, 1) := dk_27 (dk_at dksX8_init_0 9 rfl rfl)
theorem dX8_init_10 : decode cX8_init 10 = .ok (.putfield 7, 3) := dk_181 0 7 (dk_at dksX8_init_0 10 rfl rfl)
theorem dX8_init_13 : decode cX8_init 13 = .ok (.aload_n 0, 1) := dk_42 (dk_at dksX8_init_0 13 rfl rfl)
theorem dX8_init_14 : decode cX8_init 14 = .ok (.iload_n 2, 1) := dk_28 (dk_at dksX8_init_0 14 rfl rfl)
theorem dX8_init_15 : decode cX8_init 15 = .ok (.putfield 13, 3) := dk_181 0 13 (dk_at dksX8_init_0 15 rfl rfl)
theorem dX8_init_18 : decode cX8_init 18 = .ok (.return_, 1) := dk_177 (dk_at dksX8_init_0 18 rfl rfl)
theorem nh_java_lang_Exception__init___Ljava_lang_String_Ljava_lang_Throwable_ZZ_V : cz_nh ⟨"java/lang/Exception", "<init>", "(Ljava/lang/String;Ljava/lang/Throwable;ZZ)V"⟩ 4 := ⟨by decide, by decide, by decide +kernel⟩
theorem fw_X8_7 : cz_FW "HeldCoats$Fault" 7 [(9, 6)] "I" := ⟨"HeldCoats$Fault", "kind", Or.inl q798, List.forall_mem_cons.mpr ⟨⟨RX8, TX8, 8, rfl, by decide, rfl, rfl, Or.inl rfl⟩, fun _ h => absurd h List.not_mem_nil⟩, by decide⟩
theorem fp_X8_i_9_6 : cz_FP "HeldCoats$Fault" "<init>" [(9, 6)] := List.forall_mem_cons.mpr ⟨⟨RX8, TX8, 8, rfl, Or.inr ⟨rfl, rfl, rfl⟩⟩, fun _ h => absurd h List.not_mem_nil⟩
theorem fw_X8_13 : cz_FW "HeldCoats$Fault" 13 [(9, 7)] "I" := ⟨"HeldCoats$Fault", "place", Or.inl q800, List.forall_mem_cons.mpr ⟨⟨RX8, TX8, 8, rfl, by decide, rfl, rfl, Or.inl rfl⟩, fun _ h => absurd h List.not_mem_nil⟩, by decide⟩
theorem fp_X8_i_9_7 : cz_FP "HeldCoats$Fault" "<init>" [(9, 7)] := List.forall_mem_cons.mpr ⟨⟨RX8, TX8, 8, rfl, Or.inr ⟨rfl, rfl, rfl⟩⟩, fun _ h => absurd h List.not_mem_nil⟩
set_option maxHeartbeats 4000000 in
set_option maxRecDepth 100000 in
noncomputable def fn_X8_init (l0 : Option Nat) (l1 : Int32) (l2 : Int32) (h : cz_H) : cz_Z := cz_nn' l0 (cz_cV (fn_J14_init l0 none none 0 0 h) (fun h3 => cz_put h3 l0 [(9, 6)] (cz_i l1) (fun h4 => cz_put h4 l0 [(9, 7)] (cz_i l2) (fun h5 => some (.inl none, h5)))))
set_option maxHeartbeats 4000000 in
set_option maxRecDepth 100000 in
theorem wk_X8_init {K : cz_K} {D : cz_D} {h0 : cz_H} {oh : cz_O × cz_H} {l0 : Option Nat} {l1 : Int32} {l2 : Int32} {h : cz_H} (S : cz_S K D h0 cX8_init 3 "HeldCoats$Fault" ((Option.none : Option Jvm.ClassFile.FieldType)) "<init>" ([])) : cz_T K D 5 h0 oh 3 (fn_X8_init l0 l1 l2 h) h 0 [(0, cz_r l0), (1, cz_i l1), (2, cz_i l2)] [] := by
  unfold fn_X8_init
  refine ct_aload_n (k := 0) S dX8_init_0 rfl rfl ?_
  refine ct_null S dX8_init_1 ?_
  refine ct_null S dX8_init_2 ?_
  refine ct_iconst (v := 0) S dX8_init_3 kI_0 ?_
  refine ct_iconst (v := 0) S dX8_init_4 kI_0 ?_
  refine ct_nn (fun b1 hb2 => ?_)
  refine ct_cV (st := []) (cg_init (av := [cz_r none, cz_r none, cz_i 0, cz_i 0]) S hb2 (fun _ e => mt_J14_init e) q794 (Or.inl q792) rfl q793 q135 nh_java_lang_Exception__init___Ljava_lang_String_Ljava_lang_Throwable_ZZ_V (by decide) (by decide) (Nat.le_of_ble_eq_true rfl) rfl dX8_init_5) (fun h3 => ?_)
  refine ct_aload_n (k := 0) S dX8_init_8 rfl rfl ?_
  refine ct_iload_n (k := 1) S dX8_init_9 rfl rfl ?_
  refine ct_put S fw_X8_7 fp_X8_i_9_6 (cz_fits_i pd_I) dX8_init_10 (fun h4 => ?_)
  refine ct_aload_n (k := 0) S dX8_init_13 rfl rfl ?_
  refine ct_iload_n (k := 2) S dX8_init_14 rfl rfl ?_
  refine ct_put S fw_X8_13 fp_X8_i_9_7 (cz_fits_i pd_I) dX8_init_15 (fun h5 => ?_)
  exact ct_vret S rfl dX8_init_18
theorem mt_X8_init {l : Launch} {D : cz_D} {l0 : Option Nat} {l1 : Int32} {l2 : Int32} {h : cz_H} {oh : cz_O × cz_H} (hz : fn_X8_init l0 l1 l2 h = some oh) : cz_M l D yX8_init (ws_ yX8_init cX8_init 3 ((Option.none : Option Jvm.ClassFile.FieldType))) 5 [cz_r l0, cz_i l1, cz_i l2] h oh := cz_met (plainFor_of_name (by decide)) (Nat.le_of_ble_eq_true rfl) hz (fun K hl S => wk_X8_init S)
/-! HeldCoats$Reader.need(ZI)V -/
def dkwX6_need_1 : List UInt8 := [4, 167, 0, 4, 28, 42, 180, 0, 35, 183, 0, 67, 191, 177]
abbrev dktX6_need_1 : List UInt8 := dkwX6_need_1 ++ []
def dkwX6_need_0 : List UInt8 := [27, 154, 0, 36, 187, 0, 65, 89, 42, 180, 0, 38, 4, 159, 0, 11, 42, 180, 0, 38, 8, 160, 0, 7]
abbrev dktX6_need_0 : List UInt8 := dkwX6_need_0 ++ dktX6_need_1
theorem dksX6_need_0 : cX6_need.data.toList.drop 0 = dktX6_need_0 := by decide +kernel
theorem dksX6_need_1 : cX6_need.data.toList.drop 24 = dktX6_need_1 := dk_seg dksX6_need_0 24 rfl rfl
theorem dX6_need_0 : decode cX6_need 0 = .ok (.iload_n 1, 1) := dk_27 (dk_at dksX6_need_0 0 rfl rfl)
theorem dX6_need_1 : decode cX6_need 1 = .ok (.ifCond .ne 36, 3) := dk_154 0 36 (dk_at dksX6_need_0 1 rfl rfl)
theorem dX6_need_4 : decode cX6_need 4 = .ok (.new 65, 3) := dk_187 0 65 (dk_at dksX6_need_0 4 rfl rfl)
theorem dX6_need_7 : decode cX6_need 7 = .ok (.dup, 1) := dk_89 (dk_at dksX6_need_0 7 rfl rfl)
theorem dX6_need_8 : decode cX6_need 8 = .ok (.aload_n 0, 1) := dk_42 (dk_at dksX6_need_0 8 rfl rfl)
theorem dX6_need_9 : decode cX6_need 9 = .ok (.getfield 38, 3) := dk_180 0 38 (dk_at dksX6_need_0 9 rfl rfl)
theorem dX6_need_12 : decode cX6_need 12 = .ok (.iconst 1, 1) := dk_4 (dk_at dksX6_need_0 12 rfl rfl)
theorem dX6_need_13 : decode cX6_need 13 = .ok (.if_icmp .eq 11, 3) := dk_159 0 11 (dk_at dksX6_need_0 13 rfl rfl)
theorem dX6_need_16 : decode cX6_need 16 = .ok (.aload_n 0, 1) := dk_42 (dk_at dksX6_need_0 16 rfl rfl)
theorem dX6_need_17 : decode cX6_need 17 = .ok (.getfield 38, 3) := dk_180 0 38 (dk_at dksX6_need_0 17 rfl rfl)
theorem dX6_need_20 : decode cX6_need 20 = .ok (.iconst 5, 1) := dk_8 (dk_at dksX6_need_0 20 rfl rfl)
theorem dX6_need_21 : decode cX6_need 21 = .ok (.if_icmp .ne 7, 3) := dk_160 0 7 (dk_at dksX6_need_0 21 rfl rfl)
theorem dX6_need_24 : decode cX6_need 24 = .ok (.iconst 1, 1) := dk_4 (dk_at dksX6_need_1 0 rfl rfl)
theorem dX6_need_25 : decode cX6_need 25 = .ok (.goto 4, 3) := dk_167 0 4 (dk_at dksX6_need_1 1 rfl rfl)
theorem dX6_need_28 : decode cX6_need 28 = .ok (.iload_n 2, 1) := dk_28 (dk_at dksX6_need_1 4 rfl rfl)
theorem dX6_need_29 : decode cX6_need 29 = .ok (.aload_n 0, 1) := dk_42 (dk_at dksX6_need_1 5 rfl rfl)
theorem dX6_need_30 : decode cX6_need 30 = .ok (.getfield 35, 3) := dk_180 0 35 (dk_at dksX6_need_1 6 rfl rfl)
theorem dX6_need_33 : decode cX6_need 33 = .ok (.invokespecial 67, 3) := dk_183 0 67 (dk_at dksX6_need_1 9 rfl rfl)
theorem dX6_need_36 : decode cX6_need 36 = .ok (.athrow, 1) := dk_191 (dk_at dksX6_need_1 12 rfl rfl)
theorem dX6_need_37 : decode cX6_need 37 = .ok (.return_, 1) := dk_177 (dk_at dksX6_need_1 13 rfl rfl)
theorem nh_HeldCoats_Fault__init___II_V : cz_nh ⟨"HeldCoats$Fault", "<init>", "(II)V"⟩ 2 := ⟨by decide, by decide, by decide +kernel⟩
set_option maxHeartbeats 4000000 in
set_option maxRecDepth 100000 in
noncomputable def fn_X6_need (l0 : Option Nat) (l1 : Int32) (l2 : Int32) (h : cz_H) : cz_Z := (if l1 = 0 then cz_newo h 9 8 (fun r1 h2 => cz_getI h2 l0 [(6, 4), (16, 4), (18, 4)] (fun x3 => (if x3 = 1 then cz_getI h2 l0 [(6, 5), (16, 5), (18, 5)] (fun x4 => cz_nn' r1 (cz_cV (fn_X8_init r1 1 x4 h2) (fun h7 => cz_ath r1 (fun q8 => cz_thr q8 h7)))) else cz_getI h2 l0 [(6, 4), (16, 4), (18, 4)] (fun x9 => (if x9 = 5 then cz_getI h2 l0 [(6, 5), (16, 5), (18, 5)] (fun x15 => cz_nn' r1 (cz_cV (fn_X8_init r1 1 x15 h2) (fun h18 => cz_ath r1 (fun q19 => cz_thr q19 h18)))) else cz_getI h2 l0 [(6, 5), (16, 5), (18, 5)] (fun x10 => cz_nn' r1 (cz_cV (fn_X8_init r1 l2 x10 h2) (fun h13 => cz_ath r1 (fun q14 => cz_thr q14 h13))))))))) else some (.inl none, h))
set_option maxHeartbeats 4000000 in
set_option maxRecDepth 100000 in
theorem wk_X6_need {K : cz_K} {D : cz_D} {h0 : cz_H} {oh : cz_O × cz_H} {l0 : Option Nat} {l1 : Int32} {l2 : Int32} {h : cz_H} (S : cz_S K D h0 cX6_need 3 "HeldCoats$Reader" ((Option.none : Option Jvm.ClassFile.FieldType)) "need" ([])) : cz_T K D 6 h0 oh 3 (fn_X6_need l0 l1 l2 h) h 0 [(0, cz_r l0), (1, cz_i l1), (2, cz_i l2)] [] := by
  unfold fn_X6_need
  refine ct_iload_n (k := 1) S dX6_need_0 rfl rfl ?_
  refine ct_if_ne (tgt := 37) S dX6_need_1 (by decide) ?_ ?_
  · exact ct_vret S rfl dX6_need_37
  · refine ct_newo S (by decide) cz_cl9 q751 dX6_need_4 (fun r1 h2 => ?_)
    refine ct_dup S dX6_need_7 rfl ?_
    refine ct_aload_n (k := 0) S dX6_need_8 rfl rfl ?_
    refine ct_getI S fw_X6_38 dX6_need_9 (fun x3 => ?_)
    refine ct_iconst (v := 1) S dX6_need_12 kI_1 ?_
    refine ct_icmp_eq (tgt := 24) S dX6_need_13 (by decide) ?_ ?_
    · refine ct_iconst (v := 1) S dX6_need_24 kI_1 ?_
      refine ct_goto (tgt := 29) S dX6_need_25 (by decide) ?_
      refine ct_aload_n (k := 0) S dX6_need_29 rfl rfl ?_
      refine ct_getI S fw_X6_35 dX6_need_30 (fun x4 => ?_)
      refine ct_nn (fun b5 hb6 => ?_)
      refine ct_cV (st := [cz_r r1]) (cg_init (av := [cz_i 1, cz_i x4]) S hb6 (fun _ e => mt_X8_init e) q791 (Or.inl q789) rfl q790 q136 nh_HeldCoats_Fault__init___II_V (by decide) (by decide) (Nat.le_of_ble_eq_true rfl) rfl dX6_need_33) (fun h7 => ?_)
      refine ct_athrow S dX6_need_36 (fun q8 => ?_)
      exact ct_out S (fun x hx => by cases hx)
    · refine ct_aload_n (k := 0) S dX6_need_16 rfl rfl ?_
      refine ct_getI S fw_X6_38 dX6_need_17 (fun x9 => ?_)
      refine ct_iconst (v := 5) S dX6_need_20 kI_5 ?_
      refine ct_icmp_ne (tgt := 28) S dX6_need_21 (by decide) ?_ ?_
      · refine ct_iload_n (k := 2) S dX6_need_28 rfl rfl ?_
        refine ct_aload_n (k := 0) S dX6_need_29 rfl rfl ?_
        refine ct_getI S fw_X6_35 dX6_need_30 (fun x10 => ?_)
        refine ct_nn (fun b11 hb12 => ?_)
        refine ct_cV (st := [cz_r r1]) (cg_init (av := [cz_i l2, cz_i x10]) S hb12 (fun _ e => mt_X8_init e) q791 (Or.inl q789) rfl q790 q136 nh_HeldCoats_Fault__init___II_V (by decide) (by decide) (Nat.le_of_ble_eq_true rfl) rfl dX6_need_33) (fun h13 => ?_)
        refine ct_athrow S dX6_need_36 (fun q14 => ?_)
        exact ct_out S (fun x hx => by cases hx)
      · refine ct_iconst (v := 1) S dX6_need_24 kI_1 ?_
        refine ct_goto (tgt := 29) S dX6_need_25 (by decide) ?_
        refine ct_aload_n (k := 0) S dX6_need_29 rfl rfl ?_
        refine ct_getI S fw_X6_35 dX6_need_30 (fun x15 => ?_)
        refine ct_nn (fun b16 hb17 => ?_)
        refine ct_cV (st := [cz_r r1]) (cg_init (av := [cz_i 1, cz_i x15]) S hb17 (fun _ e => mt_X8_init e) q791 (Or.inl q789) rfl q790 q136 nh_HeldCoats_Fault__init___II_V (by decide) (by decide) (Nat.le_of_ble_eq_true rfl) rfl dX6_need_33) (fun h18 => ?_)
        refine ct_athrow S dX6_need_36 (fun q19 => ?_)
        exact ct_out S (fun x hx => by cases hx)
theorem mt_X6_need {l : Launch} {D : cz_D} {l0 : Option Nat} {l1 : Int32} {l2 : Int32} {h : cz_H} {oh : cz_O × cz_H} (hz : fn_X6_need l0 l1 l2 h = some oh) : cz_M l D yX6_need (ws_ yX6_need cX6_need 3 ((Option.none : Option Jvm.ClassFile.FieldType))) 6 [cz_r l0, cz_i l1, cz_i l2] h oh := cz_met (plainFor_of_name (by decide)) (Nat.le_of_ble_eq_true rfl) hz (fun K hl S => wk_X6_need S)
/-! HeldCoats$Reader.find(Ljava/util/ArrayList;)I -/
def dkwX6_find_1 : List UInt8 := [180, 0, 11, 182, 0, 70, 153, 0, 5, 28, 172, 132, 2, 1, 167, 255, 222, 2, 172]
abbrev dktX6_find_1 : List UInt8 := dkwX6_find_1 ++ []
def dkwX6_find_0 : List UInt8 := [3, 61, 28, 43, 182, 0, 102, 162, 0, 32, 43, 28, 182, 0, 107, 192, 0, 111, 180, 0, 113, 42]
abbrev dktX6_find_0 : List UInt8 := dkwX6_find_0 ++ dktX6_find_1
theorem dksX6_find_0 : cX6_find.data.toList.drop 0 = dktX6_find_0 := by decide +kernel
theorem dksX6_find_1 : cX6_find.data.toList.drop 22 = dktX6_find_1 := dk_seg dksX6_find_0 22 rfl rfl
theorem dX6_find_0 : decode cX6_find 0 = .ok (.iconst 0, 1) := dk_3 (dk_at dksX6_find_0 0 rfl rfl)
theorem dX6_find_1 : decode cX6_find 1 = .ok (.istore_n 2, 1) := dk_61 (dk_at dksX6_find_0 1 rfl rfl)
theorem dX6_find_2 : decode cX6_find 2 = .ok (.iload_n 2, 1) := dk_28 (dk_at dksX6_find_0 2 rfl rfl)
theorem dX6_find_3 : decode cX6_find 3 = .ok (.aload_n 1, 1) := dk_43 (dk_at dksX6_find_0 3 rfl rfl)
theorem dX6_find_4 : decode cX6_find 4 = .ok (.invokevirtual 102, 3) := dk_182 0 102 (dk_at dksX6_find_0 4 rfl rfl)
theorem dX6_find_7 : decode cX6_find 7 = .ok (.if_icmp .ge 32, 3) := dk_162 0 32 (dk_at dksX6_find_0 7 rfl rfl)
theorem dX6_find_10 : decode cX6_find 10 = .ok (.aload_n 1, 1) := dk_43 (dk_at dksX6_find_0 10 rfl rfl)
theorem dX6_find_11 : decode cX6_find 11 = .ok (.iload_n 2, 1) := dk_28 (dk_at dksX6_find_0 11 rfl rfl)
theorem dX6_find_12 : decode cX6_find 12 = .ok (.invokevirtual 107, 3) := dk_182 0 107 (dk_at dksX6_find_0 12 rfl rfl)
theorem dX6_find_15 : decode cX6_find 15 = .ok (.checkcast 111, 3) := dk_192 0 111 (dk_at dksX6_find_0 15 rfl rfl)
theorem dX6_find_18 : decode cX6_find 18 = .ok (.getfield 113, 3) := dk_180 0 113 (dk_at dksX6_find_0 18 rfl rfl)
theorem dX6_find_21 : decode cX6_find 21 = .ok (.aload_n 0, 1) := dk_42 (dk_at dksX6_find_0 21 rfl rfl)
theorem dX6_find_22 : decode cX6_find 22 = .ok (.getfield 11, 3) := dk_180 0 11 (dk_at dksX6_find_1 0 rfl rfl)
theorem dX6_find_25 : decode cX6_find 25 = .ok (.invokevirtual 70, 3) := dk_182 0 70 (dk_at dksX6_find_1 3 rfl rfl)
theorem dX6_find_28 : decode cX6_find 28 = .ok (.ifCond .eq 5, 3) := dk_153 0 5 (dk_at dksX6_find_1 6 rfl rfl)
theorem dX6_find_31 : decode cX6_find 31 = .ok (.iload_n 2, 1) := dk_28 (dk_at dksX6_find_1 9 rfl rfl)
theorem dX6_find_32 : decode cX6_find 32 = .ok (.ireturn, 1) := dk_172 (dk_at dksX6_find_1 10 rfl rfl)
theorem dX6_find_33 : decode cX6_find 33 = .ok (.iinc 2 1, 3) := dk_132 2 1 (dk_at dksX6_find_1 11 rfl rfl)
theorem dX6_find_36 : decode cX6_find 36 = .ok (.goto (-34), 3) := dk_167 255 222 (dk_at dksX6_find_1 14 rfl rfl)
theorem dX6_find_39 : decode cX6_find 39 = .ok (.iconst (-1), 1) := dk_2 (dk_at dksX6_find_1 17 rfl rfl)
theorem dX6_find_40 : decode cX6_find 40 = .ok (.ireturn, 1) := dk_172 (dk_at dksX6_find_1 18 rfl rfl)
theorem fw_X6_113 : cz_FW "HeldCoats$Reader" 113 [(10, 0), (11, 0)] "Ljava/lang/String;" := ⟨"HeldCoats$Named", "name", Or.inl q944, List.forall_mem_cons.mpr ⟨⟨RX10, TX10, 2, rfl, by decide, rfl, rfl, Or.inl rfl⟩, List.forall_mem_cons.mpr ⟨⟨RX11, TX11, 4, rfl, by decide, rfl, rfl, Or.inl rfl⟩, fun _ h => absurd h List.not_mem_nil⟩⟩, by decide⟩
theorem ca_HeldCoats_Named : cz_cs [10, 11] "HeldCoats$Named" := List.forall_mem_cons.mpr ⟨⟨_, cz_cl10, Or.inr q2535⟩, List.forall_mem_cons.mpr ⟨⟨_, cz_cl11, Or.inr q2534⟩, fun _ h => absurd h List.not_mem_nil⟩⟩
set_option maxHeartbeats 4000000 in
set_option maxRecDepth 100000 in
noncomputable def fn_X6_find_2 (l0 : Option Nat) (l1 : Option Nat) (k0 : Int32 → cz_H → cz_Z) (k1 : cz_H → cz_Z) : Nat → Int32 → cz_H → cz_Z
  | 0, _, _ => none
  | n + 1, l2, h => cz_rc h l1 [2] (cz_cI (fn_J2_size l1 h) (fun x8 h7 => (if x8 ≤ l2 then k1 h7 else cz_rc h7 l1 [2] (cz_cR (fn_J2_get l1 l2 h7) (fun r16 h15 => cz_cast h15 r16 [10, 11] (cz_getR h15 r16 [(10, 0), (11, 0)] (fun r17 => cz_getR h15 l0 [(6, 8), (16, 8), (18, 8)] (fun r18 => cz_rc h15 r17 [8] (cz_cI (fn_J8_equals r17 r18 h15) (fun x26 h25 => (if x26 = 0 then cz_leti (l2 + 1) (fun x27 => fn_X6_find_2 l0 l1 k0 k1 n x27 h25) else k0 l2 h25)))))))))))
set_option maxHeartbeats 4000000 in
set_option maxRecDepth 100000 in
theorem wk_X6_find_2 {K : cz_K} {D : cz_D} {h0 : cz_H} {oh : cz_O × cz_H} {l0 : Option Nat} {l1 : Option Nat} {k0 : Int32 → cz_H → cz_Z} {k1 : cz_H → cz_Z} (S : cz_S K D h0 cX6_find 3 "HeldCoats$Reader" ((Option.some Jvm.ClassFile.FieldType.int)) "find" ([])) (hk0 : ∀ (e2 : Int32) (h : cz_H), cz_T K D 5 h0 oh 3 (k0 e2 h) h 31 [(2, cz_i e2)] []) (hk1 : ∀ (h : cz_H), cz_T K D 5 h0 oh 3 (k1 h) h 39 [] []) : ∀ (n : Nat) (l2 : Int32) (h : cz_H), cz_T K D 5 h0 oh 3 (fn_X6_find_2 l0 l1 k0 k1 n l2 h) h 2 [(0, cz_r l0), (1, cz_r l1), (2, cz_i l2)] [] := by
  intro n
  induction n with
  | zero => intros; exact ct_none
  | succ n ih =>
    intro l2 h
    rw [fn_X6_find_2]
    refine ct_iload_n (k := 2) S dX6_find_2 rfl rfl ?_
    refine ct_aload_n (k := 1) S dX6_find_3 rfl rfl ?_
    refine ct_rc (fun b1 ci2 V3 hb4 hc5 hi6 => ?_)
    refine ct_cI (st := [cz_i l2]) (cg_virtual (av := []) S hb4 hc5 hi6 (fun _ e => mt_J2_size e) md_J2_size q909 q341 se_java_util_ArrayList_size___I_java_util_ArrayList (by decide) (Nat.le_of_ble_eq_true rfl) rfl dX6_find_4) (fun x8 h7 => ?_)
    refine ct_icmp_ge (tgt := 39) S dX6_find_7 (by decide) ?_ ?_
    · exact ct_sub [] rfl (hk1 h7)
    · refine ct_aload_n (k := 1) S dX6_find_10 rfl rfl ?_
      refine ct_iload_n (k := 2) S dX6_find_11 rfl rfl ?_
      refine ct_rc (fun b9 ci10 V11 hb12 hc13 hi14 => ?_)
      refine ct_cR (st := []) (cg_virtual (av := [cz_i l2]) S hb12 hc13 hi14 (fun _ e => mt_J2_get e) md_J2_get q910 q345 se_java_util_ArrayList_get__I_Ljava_lang_Object__java_util_ArrayList (by decide) (Nat.le_of_ble_eq_true rfl) rfl dX6_find_12) (fun r16 h15 => ?_)
      refine ct_cast S q911 ca_HeldCoats_Named dX6_find_15 ?_
      refine ct_getR S fw_X6_113 dX6_find_18 (fun r17 => ?_)
      refine ct_aload_n (k := 0) S dX6_find_21 rfl rfl ?_
      refine ct_getR S fw_X6_11 dX6_find_22 (fun r18 => ?_)
      refine ct_rc (fun b19 ci20 V21 hb22 hc23 hi24 => ?_)
      refine ct_cI (st := []) (cg_virtual (av := [cz_r r18]) S hb22 hc23 hi24 (fun _ e => mt_J8_equals e) md_J8_equals q728 q729 se_java_lang_String_equals__Ljava_lang_Object__Z_java_lang_String (by decide) (Nat.le_of_ble_eq_true rfl) rfl dX6_find_25) (fun x26 h25 => ?_)
      refine ct_if_eq (tgt := 33) S dX6_find_28 (by decide) ?_ ?_
      · refine ct_iincL (j := 2) (L2 := fun x27 => [(2, cz_i x27), (0, cz_r l0), (1, cz_r l1)]) S dX6_find_33 rfl kI_1 (by decide) (fun _ => rfl) (fun x27 => ?_)
        refine ct_goto (tgt := 2) S dX6_find_36 (by decide) ?_
        exact ct_sub [1, 2, 0] rfl (ih x27 h25)
      · exact ct_sub [2] rfl (hk0 l2 h25)
set_option maxHeartbeats 4000000 in
set_option maxRecDepth 100000 in
noncomputable def fn_X6_find (l0 : Option Nat) (l1 : Option Nat) (h : cz_H) : cz_Z := fn_X6_find_2 l0 l1 (fun (e28 : Int32) (h29 : cz_H) => some (.inl (some (cz_i e28)), h29)) (fun (h30 : cz_H) => some (.inl (some (cz_i (-1))), h30)) 1000 0 h
set_option maxHeartbeats 4000000 in
set_option maxRecDepth 100000 in
theorem wk_X6_find {K : cz_K} {D : cz_D} {h0 : cz_H} {oh : cz_O × cz_H} {l0 : Option Nat} {l1 : Option Nat} {h : cz_H} (S : cz_S K D h0 cX6_find 3 "HeldCoats$Reader" ((Option.some Jvm.ClassFile.FieldType.int)) "find" ([])) : cz_T K D 5 h0 oh 3 (fn_X6_find l0 l1 h) h 0 [(0, cz_r l0), (1, cz_r l1)] [] := by
  unfold fn_X6_find
  refine ct_iconst (v := 0) S dX6_find_0 kI_0 ?_
  refine ct_istore_n (L' := [(2, cz_i 0), (0, cz_r l0), (1, cz_r l1)]) S dX6_find_1 rfl (by decide) rfl ?_
  refine ct_sub [1, 2, 0] (L' := [(0, cz_r l0), (1, cz_r l1), (2, cz_i 0)]) rfl (wk_X6_find_2 S ?_ ?_ 1000 0 h)
  · intro e28 h29
    refine ct_iload_n (k := 0) S dX6_find_31 rfl rfl ?_
    exact ct_iret S rfl dX6_find_32
  · intro h30
    refine ct_iconst (v := (-1)) S dX6_find_39 kI_m1 ?_
    exact ct_iret S rfl dX6_find_40
theorem mt_X6_find {l : Launch} {D : cz_D} {l0 : Option Nat} {l1 : Option Nat} {h : cz_H} {oh : cz_O × cz_H} (hz : fn_X6_find l0 l1 h = some oh) : cz_M l D yX6_find (ws_ yX6_find cX6_find 3 ((Option.some Jvm.ClassFile.FieldType.int))) 5 [cz_r l0, cz_r l1] h oh := cz_met (plainFor_of_name (by decide)) (Nat.le_of_ble_eq_true rfl) hz (fun K hl S => wk_X6_find S)
/-! java/lang/String.coder()B -/
def dkwJ8_coder_0 : List UInt8 := [178, 0, 38, 153, 0, 10, 42, 180, 0, 15, 167, 0, 4, 4, 172]
abbrev dktJ8_coder_0 : List UInt8 := dkwJ8_coder_0 ++ []
theorem dksJ8_coder_0 : cJ8_coder.data.toList.drop 0 = dktJ8_coder_0 := by decide +kernel
theorem dJ8_coder_0 : decode cJ8_coder 0 = .ok (.getstatic 38, 3) := dk_178 0 38 (dk_at dksJ8_coder_0 0 rfl rfl)
theorem dJ8_coder_3 : decode cJ8_coder 3 = .ok (.ifCond .eq 10, 3) := dk_153 0 10 (dk_at dksJ8_coder_0 3 rfl rfl)
theorem dJ8_coder_6 : decode cJ8_coder 6 = .ok (.aload_n 0, 1) := dk_42 (dk_at dksJ8_coder_0 6 rfl rfl)
theorem dJ8_coder_7 : decode cJ8_coder 7 = .ok (.getfield 15, 3) := dk_180 0 15 (dk_at dksJ8_coder_0 7 rfl rfl)
theorem dJ8_coder_10 : decode cJ8_coder 10 = .ok (.goto 4, 3) := dk_167 0 4 (dk_at dksJ8_coder_0 10 rfl rfl)
theorem dJ8_coder_13 : decode cJ8_coder 13 = .ok (.iconst 1, 1) := dk_4 (dk_at dksJ8_coder_0 13 rfl rfl)
theorem dJ8_coder_14 : decode cJ8_coder 14 = .ok (.ireturn, 1) := dk_172 (dk_at dksJ8_coder_0 14 rfl rfl)
set_option maxHeartbeats 4000000 in
set_option maxRecDepth 100000 in
noncomputable def fn_J8_coder (l0 : Option Nat) (h : cz_H) : cz_Z := (if (1 : Int32) = 0 then some (.inl (some (cz_i 1)), h) else cz_getI h l0 [(8, 1)] (fun x1 => cz_ckb x1 (some (.inl (some (cz_i x1)), h))))
set_option maxHeartbeats 4000000 in
set_option maxRecDepth 100000 in
theorem wk_J8_coder {K : cz_K} {D : cz_D} {h0 : cz_H} {oh : cz_O × cz_H} {l0 : Option Nat} {h : cz_H} (S : cz_S K D h0 cJ8_coder 1 "java/lang/String" ((Option.some Jvm.ClassFile.FieldType.byte)) "coder" ([])) : cz_T K D 2 h0 oh 1 (fn_J8_coder l0 h) h 0 [(0, cz_r l0)] [] := by
  unfold fn_J8_coder
  refine ct_gets (i := 0) S rfl q692 dJ8_coder_0 ?_
  refine ct_if_eq (tgt := 13) S dJ8_coder_3 (by decide) ?_ ?_
  · refine ct_iconst (v := 1) S dJ8_coder_13 kI_1 ?_
    exact ct_zr (ty := .byte) S rfl rfl dJ8_coder_14
  · refine ct_aload_n (k := 0) S dJ8_coder_6 rfl rfl ?_
    refine ct_getI S fw_J8_15 dJ8_coder_7 (fun x1 => ?_)
    refine ct_goto (tgt := 14) S dJ8_coder_10 (by decide) ?_
    refine ct_ckb (fun hx => ?_)
    exact ct_zr (ty := .byte) S rfl (cz_nb hx) dJ8_coder_14
theorem mt_J8_coder {l : Launch} {D : cz_D} {l0 : Option Nat} {h : cz_H} {oh : cz_O × cz_H} (hz : fn_J8_coder l0 h = some oh) : cz_M l D yJ8_coder (ws_ yJ8_coder cJ8_coder 1 ((Option.some Jvm.ClassFile.FieldType.byte))) 2 [cz_r l0] h oh := cz_met (plainFor_of_name (by decide)) (Nat.le_of_ble_eq_true rfl) hz (fun K hl S => wk_J8_coder S)
/-! java/lang/AbstractStringBuilder.inflateIfNeededFor(Ljava/lang/String;)V -/
def dkwJ6_inflateIfNeededFor_0 : List UInt8 := [178, 0, 18, 153, 0, 18, 42, 180, 0, 22, 43, 182, 0, 40, 159, 0, 7, 42, 182, 0, 195, 177]
abbrev dktJ6_inflateIfNeededFor_0 : List UInt8 := dkwJ6_inflateIfNeededFor_0 ++ []
theorem dksJ6_inflateIfNeededFor_0 : cJ6_inflateIfNeededFor.data.toList.drop 0 = dktJ6_inflateIfNeededFor_0 := by decide +kernel
theorem dJ6_inflateIfNeededFor_0 : decode cJ6_inflateIfNeededFor 0 = .ok (.getstatic 18, 3) := dk_178 0 18 (dk_at dksJ6_inflateIfNeededFor_0 0 rfl rfl)
theorem dJ6_inflateIfNeededFor_3 : decode cJ6_inflateIfNeededFor 3 = .ok (.ifCond .eq 18, 3) := dk_153 0 18 (dk_at dksJ6_inflateIfNeededFor_0 3 rfl rfl)
theorem dJ6_inflateIfNeededFor_6 : decode cJ6_inflateIfNeededFor 6 = .ok (.aload_n 0, 1) := dk_42 (dk_at dksJ6_inflateIfNeededFor_0 6 rfl rfl)
theorem dJ6_inflateIfNeededFor_7 : decode cJ6_inflateIfNeededFor 7 = .ok (.getfield 22, 3) := dk_180 0 22 (dk_at dksJ6_inflateIfNeededFor_0 7 rfl rfl)
theorem dJ6_inflateIfNeededFor_10 : decode cJ6_inflateIfNeededFor 10 = .ok (.aload_n 1, 1) := dk_43 (dk_at dksJ6_inflateIfNeededFor_0 10 rfl rfl)
theorem dJ6_inflateIfNeededFor_11 : decode cJ6_inflateIfNeededFor 11 = .ok (.invokevirtual 40, 3) := dk_182 0 40 (dk_at dksJ6_inflateIfNeededFor_0 11 rfl rfl)
theorem dJ6_inflateIfNeededFor_14 : decode cJ6_inflateIfNeededFor 14 = .ok (.if_icmp .eq 7, 3) := dk_159 0 7 (dk_at dksJ6_inflateIfNeededFor_0 14 rfl rfl)
theorem dJ6_inflateIfNeededFor_17 : decode cJ6_inflateIfNeededFor 17 = .ok (.aload_n 0, 1) := dk_42 (dk_at dksJ6_inflateIfNeededFor_0 17 rfl rfl)
theorem dJ6_inflateIfNeededFor_18 : decode cJ6_inflateIfNeededFor 18 = .ok (.invokevirtual 195, 3) := dk_182 0 195 (dk_at dksJ6_inflateIfNeededFor_0 18 rfl rfl)
theorem dJ6_inflateIfNeededFor_21 : decode cJ6_inflateIfNeededFor 21 = .ok (.return_, 1) := dk_177 (dk_at dksJ6_inflateIfNeededFor_0 21 rfl rfl)
theorem se_java_lang_String_coder___B_java_lang_String : ∀ c ∈ ([8] : List Nat), ∃ q : vw_C, cz_cl[c]? = some q ∧ Cond.selects q.1 (⟨"java/lang/String", "coder", "()B"⟩ : MethodName) (⟨"java/lang/String", "coder", "()B"⟩ : MethodName) ∈ lw_all := List.forall_mem_cons.mpr ⟨⟨_, cz_cl8, q860⟩, fun _ h => absurd h List.not_mem_nil⟩
theorem md_J8_coder : cz_md yJ8_coder 1 (ws_ yJ8_coder cJ8_coder 1 ((Option.some Jvm.ClassFile.FieldType.byte))) 0 := ⟨cz_ws_code q861, q128, ⟨by decide, by decide, by decide +kernel⟩, by decide⟩
set_option maxHeartbeats 4000000 in
set_option maxRecDepth 100000 in
noncomputable def fn_J6_inflateIfNeededFor (l0 : Option Nat) (l1 : Option Nat) (h : cz_H) : cz_Z := (if (1 : Int32) = 0 then some (.inl none, h) else cz_getI h l0 [(7, 1)] (fun x1 => cz_rc h l1 [8] (cz_cI (fn_J8_coder l1 h) (fun x9 h8 => (if x1 = x9 then some (.inl none, h8) else none)))))
set_option maxHeartbeats 4000000 in
set_option maxRecDepth 100000 in
theorem wk_J6_inflateIfNeededFor {K : cz_K} {D : cz_D} {h0 : cz_H} {oh : cz_O × cz_H} {l0 : Option Nat} {l1 : Option Nat} {h : cz_H} (S : cz_S K D h0 cJ6_inflateIfNeededFor 2 "java/lang/AbstractStringBuilder" ((Option.none : Option Jvm.ClassFile.FieldType)) "inflateIfNeededFor" ([])) : cz_T K D 3 h0 oh 2 (fn_J6_inflateIfNeededFor l0 l1 h) h 0 [(0, cz_r l0), (1, cz_r l1)] [] := by
  unfold fn_J6_inflateIfNeededFor
  refine ct_gets (i := 0) S rfl q541 dJ6_inflateIfNeededFor_0 ?_
  refine ct_if_eq (tgt := 21) S dJ6_inflateIfNeededFor_3 (by decide) ?_ ?_
  · exact ct_vret S rfl dJ6_inflateIfNeededFor_21
  · refine ct_aload_n (k := 0) S dJ6_inflateIfNeededFor_6 rfl rfl ?_
    refine ct_getI S fw_J6_22 dJ6_inflateIfNeededFor_7 (fun x1 => ?_)
    refine ct_aload_n (k := 1) S dJ6_inflateIfNeededFor_10 rfl rfl ?_
    refine ct_rc (fun b2 ci3 V4 hb5 hc6 hi7 => ?_)
    refine ct_cI (st := [cz_i x1]) (cg_virtual (av := []) S hb5 hc6 hi7 (fun _ e => mt_J8_coder e) md_J8_coder q870 q859 se_java_lang_String_coder___B_java_lang_String (by decide) (Nat.le_of_ble_eq_true rfl) rfl dJ6_inflateIfNeededFor_11) (fun x9 h8 => ?_)
    refine ct_icmp_eq (tgt := 21) S dJ6_inflateIfNeededFor_14 (by decide) ?_ ?_
    · exact ct_vret S rfl dJ6_inflateIfNeededFor_21
    · refine ct_aload_n (k := 0) S dJ6_inflateIfNeededFor_17 rfl rfl ?_
      exact ct_none
theorem mt_J6_inflateIfNeededFor {l : Launch} {D : cz_D} {l0 : Option Nat} {l1 : Option Nat} {h : cz_H} {oh : cz_O × cz_H} (hz : fn_J6_inflateIfNeededFor l0 l1 h = some oh) : cz_M l D yJ6_inflateIfNeededFor (ws_ yJ6_inflateIfNeededFor cJ6_inflateIfNeededFor 2 ((Option.none : Option Jvm.ClassFile.FieldType))) 3 [cz_r l0, cz_r l1] h oh := cz_met (plainFor_of_name (by decide)) (Nat.le_of_ble_eq_true rfl) hz (fun K hl S => wk_J6_inflateIfNeededFor S)
/-! java/lang/String.getBytes([BIB)V -/
def dkwJ8_getBytes_1 : List UInt8 := [184, 0, 212, 167, 0, 18, 42, 180, 0, 9, 3, 43, 28, 42, 180, 0, 9, 190, 184, 0, 106, 177]
abbrev dktJ8_getBytes_1 : List UInt8 := dkwJ8_getBytes_1 ++ []
def dkwJ8_getBytes_0 : List UInt8 := [42, 182, 1, 79, 29, 160, 0, 23, 42, 180, 0, 9, 3, 43, 28, 29, 120, 42, 180, 0, 9, 190]
abbrev dktJ8_getBytes_0 : List UInt8 := dkwJ8_getBytes_0 ++ dktJ8_getBytes_1
theorem dksJ8_getBytes_0 : cJ8_getBytes.data.toList.drop 0 = dktJ8_getBytes_0 := by decide +kernel
theorem dksJ8_getBytes_1 : cJ8_getBytes.data.toList.drop 22 = dktJ8_getBytes_1 := dk_seg dksJ8_getBytes_0 22 rfl rfl
theorem dJ8_getBytes_0 : decode cJ8_getBytes 0 = .ok (.aload_n 0, 1) := dk_42 (dk_at dksJ8_getBytes_0 0 rfl rfl)
theorem dJ8_getBytes_1 : decode cJ8_getBytes 1 = .ok (.invokevirtual 335, 3) := dk_182 1 79 (dk_at dksJ8_getBytes_0 1 rfl rfl)
theorem dJ8_getBytes_4 : decode cJ8_getBytes 4 = .ok (.iload_n 3, 1) := dk_29 (dk_at dksJ8_getBytes_0 4 rfl rfl)
theorem dJ8_getBytes_5 : decode cJ8_getBytes 5 = .ok (.if_icmp .ne 23, 3) := dk_160 0 23 (dk_at dksJ8_getBytes_0 5 rfl rfl)
theorem dJ8_getBytes_8 : decode cJ8_getBytes 8 = .ok (.aload_n 0, 1) := dk_42 (dk_at dksJ8_getBytes_0 8 rfl rfl)
theorem dJ8_getBytes_9 : decode cJ8_getBytes 9 = .ok (.getfield 9, 3) := dk_180 0 9 (dk_at dksJ8_getBytes_0 9 rfl rfl)
theorem dJ8_getBytes_12 : decode cJ8_getBytes 12 = .ok (.iconst 0, 1) := dk_3 (dk_at dksJ8_getBytes_0 12 rfl rfl)
theorem dJ8_getBytes_13 : decode cJ8_getBytes 13 = .ok (.aload_n 1, 1) := dk_43 (dk_at dksJ8_getBytes_0 13 rfl rfl)
theorem dJ8_getBytes_14 : decode cJ8_getBytes 14 = .ok (.iload_n 2, 1) := dk_28 (dk_at dksJ8_getBytes_0 14 rfl rfl)
theorem dJ8_getBytes_15 : decode cJ8_getBytes 15 = .ok (.iload_n 3, 1) := dk_29 (dk_at dksJ8_getBytes_0 15 rfl rfl)
theorem dJ8_getBytes_16 : decode cJ8_getBytes 16 = .ok (.ishl, 1) := dk_120 (dk_at dksJ8_getBytes_0 16 rfl rfl)
theorem dJ8_getBytes_17 : decode cJ8_getBytes 17 = .ok (.aload_n 0, 1) := dk_42 (dk_at dksJ8_getBytes_0 17 rfl rfl)
theorem dJ8_getBytes_18 : decode cJ8_getBytes 18 = .ok (.getfield 9, 3) := dk_180 0 9 (dk_at dksJ8_getBytes_0 18 rfl rfl)
theorem dJ8_getBytes_21 : decode cJ8_getBytes 21 = .ok (.arraylength, 1) := dk_190 (dk_at dksJ8_getBytes_0 21 rfl rfl)
theorem dJ8_getBytes_22 : decode cJ8_getBytes 22 = .ok (.invokestatic 212, 3) := dk_184 0 212 (dk_at dksJ8_getBytes_1 0 rfl rfl)
theorem dJ8_getBytes_25 : decode cJ8_getBytes 25 = .ok (.goto 18, 3) := dk_167 0 18 (dk_at dksJ8_getBytes_1 3 rfl rfl)
theorem dJ8_getBytes_28 : decode cJ8_getBytes 28 = .ok (.aload_n 0, 1) := dk_42 (dk_at dksJ8_getBytes_1 6 rfl rfl)
theorem dJ8_getBytes_29 : decode cJ8_getBytes 29 = .ok (.getfield 9, 3) := dk_180 0 9 (dk_at dksJ8_getBytes_1 7 rfl rfl)
theorem dJ8_getBytes_32 : decode cJ8_getBytes 32 = .ok (.iconst 0, 1) := dk_3 (dk_at dksJ8_getBytes_1 10 rfl rfl)
theorem dJ8_getBytes_33 : decode cJ8_getBytes 33 = .ok (.aload_n 1, 1) := dk_43 (dk_at dksJ8_getBytes_1 11 rfl rfl)
theorem dJ8_getBytes_34 : decode cJ8_getBytes 34 = .ok (.iload_n 2, 1) := dk_28 (dk_at dksJ8_getBytes_1 12 rfl rfl)
theorem dJ8_getBytes_35 : decode cJ8_getBytes 35 = .ok (.aload_n 0, 1) := dk_42 (dk_at dksJ8_getBytes_1 13 rfl rfl)
theorem dJ8_getBytes_36 : decode cJ8_getBytes 36 = .ok (.getfield 9, 3) := dk_180 0 9 (dk_at dksJ8_getBytes_1 14 rfl rfl)
theorem dJ8_getBytes_39 : decode cJ8_getBytes 39 = .ok (.arraylength, 1) := dk_190 (dk_at dksJ8_getBytes_1 17 rfl rfl)
theorem dJ8_getBytes_40 : decode cJ8_getBytes 40 = .ok (.invokestatic 106, 3) := dk_184 0 106 (dk_at dksJ8_getBytes_1 18 rfl rfl)
theorem dJ8_getBytes_43 : decode cJ8_getBytes 43 = .ok (.return_, 1) := dk_177 (dk_at dksJ8_getBytes_1 21 rfl rfl)
set_option maxHeartbeats 4000000 in
set_option maxRecDepth 100000 in
noncomputable def fn_J8_getBytes (l0 : Option Nat) (l1 : Option Nat) (l2 : Int32) (l3 : Int32) (h : cz_H) : cz_Z := cz_rc h l0 [8] (cz_cI (fn_J8_coder l0 h) (fun x8 h7 => (if x8 = l3 then cz_getR h7 l0 [(8, 0)] (fun r12 => cz_getR h7 l0 [(8, 0)] (fun r13 => cz_alen h7 r13 (fun x14 => cz_acp h7 r12 0 l1 (l2 <<< (l3 &&& 31)) x14 (fun h15 => some (.inl none, h15))))) else cz_getR h7 l0 [(8, 0)] (fun r9 => cz_getR h7 l0 [(8, 0)] (fun r10 => cz_alen h7 r10 (fun x11 => none))))))
set_option maxHeartbeats 4000000 in
set_option maxRecDepth 100000 in
theorem wk_J8_getBytes {K : cz_K} {D : cz_D} {h0 : cz_H} {oh : cz_O × cz_H} {l0 : Option Nat} {l1 : Option Nat} {l2 : Int32} {l3 : Int32} {h : cz_H} (S : cz_S K D h0 cJ8_getBytes 4 "java/lang/String" ((Option.none : Option Jvm.ClassFile.FieldType)) "getBytes" ([])) : cz_T K D 3 h0 oh 4 (fn_J8_getBytes l0 l1 l2 l3 h) h 0 [(0, cz_r l0), (1, cz_r l1), (2, cz_i l2), (3, cz_i l3)] [] := by
  unfold fn_J8_getBytes
  refine ct_aload_n (k := 0) S dJ8_getBytes_0 rfl rfl ?_
  refine ct_rc (fun b1 ci2 V3 hb4 hc5 hi6 => ?_)
  refine ct_cI (st := []) (cg_virtual (av := []) S hb4 hc5 hi6 (fun _ e => mt_J8_coder e) md_J8_coder q858 q859 se_java_lang_String_coder___B_java_lang_String (by decide) (Nat.le_of_ble_eq_true rfl) rfl dJ8_getBytes_1) (fun x8 h7 => ?_)
  refine ct_iload_n (k := 3) S dJ8_getBytes_4 rfl rfl ?_
  refine ct_icmp_ne (tgt := 28) S dJ8_getBytes_5 (by decide) ?_ ?_
  · refine ct_aload_n (k := 0) S dJ8_getBytes_28 rfl rfl ?_
    refine ct_getR S fw_J8_9 dJ8_getBytes_29 (fun r9 => ?_)
    refine ct_iconst (v := 0) S dJ8_getBytes_32 kI_0 ?_
    refine ct_aload_n (k := 1) S dJ8_getBytes_33 rfl rfl ?_
    refine ct_iload_n (k := 2) S dJ8_getBytes_34 rfl rfl ?_
    refine ct_aload_n (k := 0) S dJ8_getBytes_35 rfl rfl ?_
    refine ct_getR S fw_J8_9 dJ8_getBytes_36 (fun r10 => ?_)
    refine ct_alen S dJ8_getBytes_39 (fun x11 => ?_)
    exact ct_none
  · refine ct_aload_n (k := 0) S dJ8_getBytes_8 rfl rfl ?_
    refine ct_getR S fw_J8_9 dJ8_getBytes_9 (fun r12 => ?_)
    refine ct_iconst (v := 0) S dJ8_getBytes_12 kI_0 ?_
    refine ct_aload_n (k := 1) S dJ8_getBytes_13 rfl rfl ?_
    refine ct_iload_n (k := 2) S dJ8_getBytes_14 rfl rfl ?_
    refine ct_iload_n (k := 3) S dJ8_getBytes_15 rfl rfl ?_
    refine ct_ishl S dJ8_getBytes_16 ?_
    refine ct_aload_n (k := 0) S dJ8_getBytes_17 rfl rfl ?_
    refine ct_getR S fw_J8_9 dJ8_getBytes_18 (fun r13 => ?_)
    refine ct_alen S dJ8_getBytes_21 (fun x14 => ?_)
    refine ct_acp S q875 q604 q603 q132 (by decide) (Nat.le_of_ble_eq_true rfl) dJ8_getBytes_22 (fun h15 => ?_)
    refine ct_goto (tgt := 43) S dJ8_getBytes_25 (by decide) ?_
    exact ct_vret S rfl dJ8_getBytes_43
theorem mt_J8_getBytes {l : Launch} {D : cz_D} {l0 : Option Nat} {l1 : Option Nat} {l2 : Int32} {l3 : Int32} {h : cz_H} {oh : cz_O × cz_H} (hz : fn_J8_getBytes l0 l1 l2 l3 h = some oh) : cz_M l D yJ8_getBytes (ws_ yJ8_getBytes cJ8_getBytes 4 ((Option.none : Option Jvm.ClassFile.FieldType))) 3 [cz_r l0, cz_r l1, cz_i l2, cz_i l3] h oh := cz_met (plainFor_of_name (by decide)) (Nat.le_of_ble_eq_true rfl) hz (fun K hl S => wk_J8_getBytes S)
/-! java/lang/AbstractStringBuilder.putStringAt(ILjava/lang/String;)V -/
def dkwJ6_putStringAt_0 : List UInt8 := [42, 44, 182, 1, 141, 44, 42, 180, 0, 15, 27, 42, 180, 0, 22, 182, 1, 143, 177]
abbrev dktJ6_putStringAt_0 : List UInt8 := dkwJ6_putStringAt_0 ++ []
theorem dksJ6_putStringAt_0 : cJ6_putStringAt.data.toList.drop 0 = dktJ6_putStringAt_0 := by decide +kernel
theorem dJ6_putStringAt_0 : decode cJ6_putStringAt 0 = .ok (.aload_n 0, 1) := dk_42 (dk_at dksJ6_putStringAt_0 0 rfl rfl)
theorem dJ6_putStringAt_1 : decode cJ6_putStringAt 1 = .ok (.aload_n 2, 1) := dk_44 (dk_at dksJ6_putStringAt_0 1 rfl rfl)
theorem dJ6_putStringAt_2 : decode cJ6_putStringAt 2 = .ok (.invokevirtual 397, 3) := dk_182 1 141 (dk_at dksJ6_putStringAt_0 2 rfl rfl)
theorem dJ6_putStringAt_5 : decode cJ6_putStringAt 5 = .ok (.aload_n 2, 1) := dk_44 (dk_at dksJ6_putStringAt_0 5 rfl rfl)
theorem dJ6_putStringAt_6 : decode cJ6_putStringAt 6 = .ok (.aload_n 0, 1) := dk_42 (dk_at dksJ6_putStringAt_0 6 rfl rfl)
theorem dJ6_putStringAt_7 : decode cJ6_putStringAt 7 = .ok (.getfield 15, 3) := dk_180 0 15 (dk_at dksJ6_putStringAt_0 7 rfl rfl)
theorem dJ6_putStringAt_10 : decode cJ6_putStringAt 10 = .ok (.iload_n 1, 1) := dk_27 (dk_at dksJ6_putStringAt_0 10 rfl rfl)
theorem dJ6_putStringAt_11 : decode cJ6_putStringAt 11 = .ok (.aload_n 0, 1) := dk_42 (dk_at dksJ6_putStringAt_0 11 rfl rfl)
theorem dJ6_putStringAt_12 : decode cJ6_putStringAt 12 = .ok (.getfield 22, 3) := dk_180 0 22 (dk_at dksJ6_putStringAt_0 12 rfl rfl)
theorem dJ6_putStringAt_15 : decode cJ6_putStringAt 15 = .ok (.invokevirtual 399, 3) := dk_182 1 143 (dk_at dksJ6_putStringAt_0 15 rfl rfl)
theorem dJ6_putStringAt_18 : decode cJ6_putStringAt 18 = .ok (.return_, 1) := dk_177 (dk_at dksJ6_putStringAt_0 18 rfl rfl)
theorem md_J6_inflateIfNeededFor : cz_md yJ6_inflateIfNeededFor 2 (ws_ yJ6_inflateIfNeededFor cJ6_inflateIfNeededFor 2 ((Option.none : Option Jvm.ClassFile.FieldType))) 1 := ⟨cz_ws_code q869, q126, ⟨by decide, by decide, by decide +kernel⟩, by decide⟩
theorem se_java_lang_String_getBytes___BIB_V_java_lang_String : ∀ c ∈ ([8] : List Nat), ∃ q : vw_C, cz_cl[c]? = some q ∧ Cond.selects q.1 (⟨"java/lang/String", "getBytes", "([BIB)V"⟩ : MethodName) (⟨"java/lang/String", "getBytes", "([BIB)V"⟩ : MethodName) ∈ lw_all := List.forall_mem_cons.mpr ⟨⟨_, cz_cl8, q873⟩, fun _ h => absurd h List.not_mem_nil⟩
theorem md_J8_getBytes : cz_md yJ8_getBytes 4 (ws_ yJ8_getBytes cJ8_getBytes 4 ((Option.none : Option Jvm.ClassFile.FieldType))) 3 := ⟨cz_ws_code q874, q128, ⟨by decide, by decide, by decide +kernel⟩, by decide⟩
set_option maxHeartbeats 4000000 in
set_option maxRecDepth 100000 in
noncomputable def fn_J6_putStringAt (l0 : Option Nat) (l1 : Int32) (l2 : Option Nat) (h : cz_H) : cz_Z := cz_rc h l0 [7] (cz_cV (fn_J6_inflateIfNeededFor l0 l2 h) (fun h7 => cz_getR h7 l0 [(7, 0)] (fun r8 => cz_getI h7 l0 [(7, 1)] (fun x9 => cz_rc h7 l2 [8] (cz_cV (fn_J8_getBytes l2 r8 l1 x9 h7) (fun h16 => some (.inl none, h16)))))))
set_option maxHeartbeats 4000000 in
set_option maxRecDepth 100000 in
theorem wk_J6_putStringAt {K : cz_K} {D : cz_D} {h0 : cz_H} {oh : cz_O × cz_H} {l0 : Option Nat} {l1 : Int32} {l2 : Option Nat} {h : cz_H} (S : cz_S K D h0 cJ6_putStringAt 3 "java/lang/AbstractStringBuilder" ((Option.none : Option Jvm.ClassFile.FieldType)) "putStringAt" ([])) : cz_T K D 4 h0 oh 3 (fn_J6_putStringAt l0 l1 l2 h) h 0 [(0, cz_r l0), (1, cz_i l1), (2, cz_r l2)] [] := by
  unfold fn_J6_putStringAt
  refine ct_aload_n (k := 0) S dJ6_putStringAt_0 rfl rfl ?_
  refine ct_aload_n (k := 2) S dJ6_putStringAt_1 rfl rfl ?_
  refine ct_rc (fun b1 ci2 V3 hb4 hc5 hi6 => ?_)
  refine ct_cV (st := []) (cg_private (y0 := ⟨"java/lang/AbstractStringBuilder", "isLatin1", "()Z"⟩) (C0 := "java/lang/StringBuilder") (av := [cz_r l2]) S hb4 hc5 hi6 (fun _ e => mt_J6_inflateIfNeededFor e) md_J6_inflateIfNeededFor q866 q868 q867 q608 rfl (by decide) (Nat.le_of_ble_eq_true rfl) rfl dJ6_putStringAt_2) (fun h7 => ?_)
  refine ct_aload_n (k := 2) S dJ6_putStringAt_5 rfl rfl ?_
  refine ct_aload_n (k := 0) S dJ6_putStringAt_6 rfl rfl ?_
  refine ct_getR S fw_J6_15 dJ6_putStringAt_7 (fun r8 => ?_)
  refine ct_iload_n (k := 1) S dJ6_putStringAt_10 rfl rfl ?_
  refine ct_aload_n (k := 0) S dJ6_putStringAt_11 rfl rfl ?_
  refine ct_getI S fw_J6_22 dJ6_putStringAt_12 (fun x9 => ?_)
  refine ct_rc (fun b10 ci11 V12 hb13 hc14 hi15 => ?_)
  refine ct_cV (st := []) (cg_virtual (av := [cz_r r8, cz_i l1, cz_i x9]) S hb13 hc14 hi15 (fun _ e => mt_J8_getBytes e) md_J8_getBytes q871 q872 se_java_lang_String_getBytes___BIB_V_java_lang_String (by decide) (Nat.le_of_ble_eq_true rfl) rfl dJ6_putStringAt_15) (fun h16 => ?_)
  exact ct_vret S rfl dJ6_putStringAt_18
theorem mt_J6_putStringAt {l : Launch} {D : cz_D} {l0 : Option Nat} {l1 : Int32} {l2 : Option Nat} {h : cz_H} {oh : cz_O × cz_H} (hz : fn_J6_putStringAt l0 l1 l2 h = some oh) : cz_M l D yJ6_putStringAt (ws_ yJ6_putStringAt cJ6_putStringAt 3 ((Option.none : Option Jvm.ClassFile.FieldType))) 4 [cz_r l0, cz_i l1, cz_r l2] h oh := cz_met (plainFor_of_name (by decide)) (Nat.le_of_ble_eq_true rfl) hz (fun K hl S => wk_J6_putStringAt S)
/-! java/lang/String.length()I -/
def dkwJ8_length_0 : List UInt8 := [42, 180, 0, 9, 190, 42, 182, 1, 79, 122, 172]
abbrev dktJ8_length_0 : List UInt8 := dkwJ8_length_0 ++ []
theorem dksJ8_length_0 : cJ8_length.data.toList.drop 0 = dktJ8_length_0 := by decide +kernel
theorem dJ8_length_0 : decode cJ8_length 0 = .ok (.aload_n 0, 1) := dk_42 (dk_at dksJ8_length_0 0 rfl rfl)
theorem dJ8_length_1 : decode cJ8_length 1 = .ok (.getfield 9, 3) := dk_180 0 9 (dk_at dksJ8_length_0 1 rfl rfl)
theorem dJ8_length_4 : decode cJ8_length 4 = .ok (.arraylength, 1) := dk_190 (dk_at dksJ8_length_0 4 rfl rfl)
theorem dJ8_length_5 : decode cJ8_length 5 = .ok (.aload_n 0, 1) := dk_42 (dk_at dksJ8_length_0 5 rfl rfl)
theorem dJ8_length_6 : decode cJ8_length 6 = .ok (.invokevirtual 335, 3) := dk_182 1 79 (dk_at dksJ8_length_0 6 rfl rfl)
theorem dJ8_length_9 : decode cJ8_length 9 = .ok (.ishr, 1) := dk_122 (dk_at dksJ8_length_0 9 rfl rfl)
theorem dJ8_length_10 : decode cJ8_length 10 = .ok (.ireturn, 1) := dk_172 (dk_at dksJ8_length_0 10 rfl rfl)
set_option maxHeartbeats 4000000 in
set_option maxRecDepth 100000 in
noncomputable def fn_J8_length (l0 : Option Nat) (h : cz_H) : cz_Z := cz_getR h l0 [(8, 0)] (fun r1 => cz_alen h r1 (fun x2 => cz_rc h l0 [8] (cz_cI (fn_J8_coder l0 h) (fun x10 h9 => some (.inl (some (cz_i (x2 >>> (x10 &&& 31)))), h9)))))
set_option maxHeartbeats 4000000 in
set_option maxRecDepth 100000 in
theorem wk_J8_length {K : cz_K} {D : cz_D} {h0 : cz_H} {oh : cz_O × cz_H} {l0 : Option Nat} {h : cz_H} (S : cz_S K D h0 cJ8_length 1 "java/lang/String" ((Option.some Jvm.ClassFile.FieldType.int)) "length" ([])) : cz_T K D 3 h0 oh 1 (fn_J8_length l0 h) h 0 [(0, cz_r l0)] [] := by
  unfold fn_J8_length
  refine ct_aload_n (k := 0) S dJ8_length_0 rfl rfl ?_
  refine ct_getR S fw_J8_9 dJ8_length_1 (fun r1 => ?_)
  refine ct_alen S dJ8_length_4 (fun x2 => ?_)
  refine ct_aload_n (k := 0) S dJ8_length_5 rfl rfl ?_
  refine ct_rc (fun b3 ci4 V5 hb6 hc7 hi8 => ?_)
  refine ct_cI (st := [cz_i x2]) (cg_virtual (av := []) S hb6 hc7 hi8 (fun _ e => mt_J8_coder e) md_J8_coder q858 q859 se_java_lang_String_coder___B_java_lang_String (by decide) (Nat.le_of_ble_eq_true rfl) rfl dJ8_length_6) (fun x10 h9 => ?_)
  refine ct_ishr S dJ8_length_9 ?_
  exact ct_iret S rfl dJ8_length_10
theorem mt_J8_length {l : Launch} {D : cz_D} {l0 : Option Nat} {h : cz_H} {oh : cz_O × cz_H} (hz : fn_J8_length l0 h = some oh) : cz_M l D yJ8_length (ws_ yJ8_length cJ8_length 1 ((Option.some Jvm.ClassFile.FieldType.int))) 3 [cz_r l0] h oh := cz_met (plainFor_of_name (by decide)) (Nat.le_of_ble_eq_true rfl) hz (fun K hl S => wk_J8_length S)
/-! java/lang/AbstractStringBuilder.append(Ljava/lang/String;)Ljava/lang/AbstractStringBuilder; -/
def dkwJ6_append_2_1 : List UInt8 := [42, 42, 180, 0, 79, 43, 182, 0, 208, 42, 89, 180, 0, 79, 28, 96, 181, 0, 79, 42, 176]
abbrev dktJ6_append_2_1 : List UInt8 := dkwJ6_append_2_1 ++ []
def dkwJ6_append_2_0 : List UInt8 := [43, 199, 0, 8, 42, 182, 0, 204, 176, 43, 182, 0, 32, 61, 42, 42, 180, 0, 79, 28, 96, 182, 0, 100]
abbrev dktJ6_append_2_0 : List UInt8 := dkwJ6_append_2_0 ++ dktJ6_append_2_1
theorem dksJ6_append_2_0 : cJ6_append_2.data.toList.drop 0 = dktJ6_append_2_0 := by decide +kernel
theorem dksJ6_append_2_1 : cJ6_append_2.data.toList.drop 24 = dktJ6_append_2_1 := dk_seg dksJ6_append_2_0 24 rfl rfl
theorem dJ6_append_2_0 : decode cJ6_append_2 0 = .ok (.aload_n 1, 1) := dk_43 (dk_at dksJ6_append_2_0 0 rfl rfl)
theorem dJ6_append_2_1 : decode cJ6_append_2 1 = .ok (.ifnonnull 8, 3) := dk_199 0 8 (dk_at dksJ6_append_2_0 1 rfl rfl)
theorem dJ6_append_2_4 : decode cJ6_append_2 4 = .ok (.aload_n 0, 1) := dk_42 (dk_at dksJ6_append_2_0 4 rfl rfl)
theorem dJ6_append_2_5 : decode cJ6_append_2 5 = .ok (.invokevirtual 204, 3) := dk_182 0 204 (dk_at dksJ6_append_2_0 5 rfl rfl)
theorem dJ6_append_2_8 : decode cJ6_append_2 8 = .ok (.areturn, 1) := dk_176 (dk_at dksJ6_append_2_0 8 rfl rfl)
theorem dJ6_append_2_9 : decode cJ6_append_2 9 = .ok (.aload_n 1, 1) := dk_43 (dk_at dksJ6_append_2_0 9 rfl rfl)
theorem dJ6_append_2_10 : decode cJ6_append_2 10 = .ok (.invokevirtual 32, 3) := dk_182 0 32 (dk_at dksJ6_append_2_0 10 rfl rfl)
theorem dJ6_append_2_13 : decode cJ6_append_2 13 = .ok (.istore_n 2, 1) := dk_61 (dk_at dksJ6_append_2_0 13 rfl rfl)
theorem dJ6_append_2_14 : decode cJ6_append_2 14 = .ok (.aload_n 0, 1) := dk_42 (dk_at dksJ6_append_2_0 14 rfl rfl)
theorem dJ6_append_2_15 : decode cJ6_append_2 15 = .ok (.aload_n 0, 1) := dk_42 (dk_at dksJ6_append_2_0 15 rfl rfl)
theorem dJ6_append_2_16 : decode cJ6_append_2 16 = .ok (.getfield 79, 3) := dk_180 0 79 (dk_at dksJ6_append_2_0 16 rfl rfl)
theorem dJ6_append_2_19 : decode cJ6_append_2 19 = .ok (.iload_n 2, 1) := dk_28 (dk_at dksJ6_append_2_0 19 rfl rfl)
theorem dJ6_append_2_20 : decode cJ6_append_2 20 = .ok (.iadd, 1) := dk_96 (dk_at dksJ6_append_2_0 20 rfl rfl)
theorem dJ6_append_2_21 : decode cJ6_append_2 21 = .ok (.invokevirtual 100, 3) := dk_182 0 100 (dk_at dksJ6_append_2_0 21 rfl rfl)
theorem dJ6_append_2_24 : decode cJ6_append_2 24 = .ok (.aload_n 0, 1) := dk_42 (dk_at dksJ6_append_2_1 0 rfl rfl)
theorem dJ6_append_2_25 : decode cJ6_append_2 25 = .ok (.aload_n 0, 1) := dk_42 (dk_at dksJ6_append_2_1 1 rfl rfl)
theorem dJ6_append_2_26 : decode cJ6_append_2 26 = .ok (.getfield 79, 3) := dk_180 0 79 (dk_at dksJ6_append_2_1 2 rfl rfl)
theorem dJ6_append_2_29 : decode cJ6_append_2 29 = .ok (.aload_n 1, 1) := dk_43 (dk_at dksJ6_append_2_1 5 rfl rfl)
theorem dJ6_append_2_30 : decode cJ6_append_2 30 = .ok (.invokevirtual 208, 3) := dk_182 0 208 (dk_at dksJ6_append_2_1 6 rfl rfl)
theorem dJ6_append_2_33 : decode cJ6_append_2 33 = .ok (.aload_n 0, 1) := dk_42 (dk_at dksJ6_append_2_1 9 rfl rfl)
theorem dJ6_append_2_34 : decode cJ6_append_2 34 = .ok (.dup, 1) := dk_89 (dk_at dksJ6_append_2_1 10 rfl rfl)
theorem dJ6_append_2_35 : decode cJ6_append_2 35 = .ok (.getfield 79, 3) := dk_180 0 79 (dk_at dksJ6_append_2_1 11 rfl rfl)
theorem dJ6_append_2_38 : decode cJ6_append_2 38 = .ok (.iload_n 2, 1) := dk_28 (dk_at dksJ6_append_2_1 14 rfl rfl)
theorem dJ6_append_2_39 : decode cJ6_append_2 39 = .ok (.iadd, 1) := dk_96 (dk_at dksJ6_append_2_1 15 rfl rfl)
theorem dJ6_append_2_40 : decode cJ6_append_2 40 = .ok (.putfield 79, 3) := dk_181 0 79 (dk_at dksJ6_append_2_1 16 rfl rfl)
theorem dJ6_append_2_43 : decode cJ6_append_2 43 = .ok (.aload_n 0, 1) := dk_42 (dk_at dksJ6_append_2_1 19 rfl rfl)
theorem dJ6_append_2_44 : decode cJ6_append_2 44 = .ok (.areturn, 1) := dk_176 (dk_at dksJ6_append_2_1 20 rfl rfl)
theorem se_java_lang_String_length___I_java_lang_String : ∀ c ∈ ([8] : List Nat), ∃ q : vw_C, cz_cl[c]? = some q ∧ Cond.selects q.1 (⟨"java/lang/String", "length", "()I"⟩ : MethodName) (⟨"java/lang/String", "length", "()I"⟩ : MethodName) ∈ lw_all := List.forall_mem_cons.mpr ⟨⟨_, cz_cl8, q856⟩, fun _ h => absurd h List.not_mem_nil⟩
theorem md_J8_length : cz_md yJ8_length 1 (ws_ yJ8_length cJ8_length 1 ((Option.some Jvm.ClassFile.FieldType.int))) 0 := ⟨cz_ws_code q857, q128, ⟨by decide, by decide, by decide +kernel⟩, by decide⟩
theorem md_J6_putStringAt : cz_md yJ6_putStringAt 3 (ws_ yJ6_putStringAt cJ6_putStringAt 3 ((Option.none : Option Jvm.ClassFile.FieldType))) 2 := ⟨cz_ws_code q865, q126, ⟨by decide, by decide, by decide +kernel⟩, by decide⟩
set_option maxHeartbeats 4000000 in
set_option maxRecDepth 100000 in
noncomputable def fn_J6_append_2 (l0 : Option Nat) (l1 : Option Nat) (h : cz_H) : cz_Z := (if l1 = none then none else cz_rc h l1 [8] (cz_cI (fn_J8_length l1 h) (fun x8 h7 => cz_getI h7 l0 [(7, 3)] (fun x9 => cz_rc h7 l0 [7] (cz_cV (fn_J6_ensureCapacityInternal l0 (x9 + x8) h7) (fun h16 => cz_getI h16 l0 [(7, 3)] (fun x17 => cz_rc h16 l0 [7] (cz_cV (fn_J6_putStringAt l0 x17 l1 h16) (fun h24 => cz_getI h24 l0 [(7, 3)] (fun x25 => cz_put h24 l0 [(7, 3)] (cz_i (x25 + x8)) (fun h26 => some (.inl (some (cz_r l0)), h26))))))))))))
set_option maxHeartbeats 4000000 in
set_option maxRecDepth 100000 in
theorem wk_J6_append_2 {K : cz_K} {D : cz_D} {h0 : cz_H} {oh : cz_O × cz_H} {l0 : Option Nat} {l1 : Option Nat} {h : cz_H} (S : cz_S K D h0 cJ6_append_2 3 "java/lang/AbstractStringBuilder" ((Option.some (Jvm.ClassFile.FieldType.object "java/lang/AbstractStringBuilder"))) "append" ([])) : cz_T K D 6 h0 oh 3 (fn_J6_append_2 l0 l1 h) h 0 [(0, cz_r l0), (1, cz_r l1)] [] := by
  unfold fn_J6_append_2
  refine ct_aload_n (k := 1) S dJ6_append_2_0 rfl rfl ?_
  refine ct_ifnonnull (tgt := 9) S dJ6_append_2_1 (by decide) ?_ ?_
  · refine ct_aload_n (k := 1) S dJ6_append_2_9 rfl rfl ?_
    refine ct_rc (fun b1 ci2 V3 hb4 hc5 hi6 => ?_)
    refine ct_cI (st := []) (cg_virtual (av := []) S hb4 hc5 hi6 (fun _ e => mt_J8_length e) md_J8_length q854 q855 se_java_lang_String_length___I_java_lang_String (by decide) (Nat.le_of_ble_eq_true rfl) rfl dJ6_append_2_10) (fun x8 h7 => ?_)
    refine ct_istore_n (L' := [(2, cz_i x8), (0, cz_r l0), (1, cz_r l1)]) S dJ6_append_2_13 rfl (by decide) rfl ?_
    refine ct_aload_n (k := 1) S dJ6_append_2_14 rfl rfl ?_
    refine ct_aload_n (k := 1) S dJ6_append_2_15 rfl rfl ?_
    refine ct_getI S fw_J6_79 dJ6_append_2_16 (fun x9 => ?_)
    refine ct_iload_n (k := 0) S dJ6_append_2_19 rfl rfl ?_
    refine ct_iadd S dJ6_append_2_20 ?_
    refine ct_rc (fun b10 ci11 V12 hb13 hc14 hi15 => ?_)
    refine ct_cV (st := []) (cg_private (y0 := ⟨"java/lang/AbstractStringBuilder", "isLatin1", "()Z"⟩) (C0 := "java/lang/StringBuilder") (av := [cz_i (x9 + x8)]) S hb13 hc14 hi15 (fun _ e => mt_J6_ensureCapacityInternal e) md_J6_ensureCapacityInternal q570 q572 q571 q608 rfl (by decide) (Nat.le_of_ble_eq_true rfl) rfl dJ6_append_2_21) (fun h16 => ?_)
    refine ct_aload_n (k := 1) S dJ6_append_2_24 rfl rfl ?_
    refine ct_aload_n (k := 1) S dJ6_append_2_25 rfl rfl ?_
    refine ct_getI S fw_J6_79 dJ6_append_2_26 (fun x17 => ?_)
    refine ct_aload_n (k := 2) S dJ6_append_2_29 rfl rfl ?_
    refine ct_rc (fun b18 ci19 V20 hb21 hc22 hi23 => ?_)
    refine ct_cV (st := []) (cg_private (y0 := ⟨"java/lang/AbstractStringBuilder", "isLatin1", "()Z"⟩) (C0 := "java/lang/StringBuilder") (av := [cz_i x17, cz_r l1]) S hb21 hc22 hi23 (fun _ e => mt_J6_putStringAt e) md_J6_putStringAt q862 q864 q863 q608 rfl (by decide) (Nat.le_of_ble_eq_true rfl) rfl dJ6_append_2_30) (fun h24 => ?_)
    refine ct_aload_n (k := 1) S dJ6_append_2_33 rfl rfl ?_
    refine ct_dup S dJ6_append_2_34 rfl ?_
    refine ct_getI S fw_J6_79 dJ6_append_2_35 (fun x25 => ?_)
    refine ct_iload_n (k := 0) S dJ6_append_2_38 rfl rfl ?_
    refine ct_iadd S dJ6_append_2_39 ?_
    refine ct_put S fw_J6_79 fp_J6_m_7_3 (cz_fits_i pd_I) dJ6_append_2_40 (fun h26 => ?_)
    refine ct_aload_n (k := 1) S dJ6_append_2_43 rfl rfl ?_
    exact ct_aret S rfl (Or.inl ⟨_, rfl⟩) dJ6_append_2_44
  · refine ct_aload_n (k := 0) S dJ6_append_2_4 rfl rfl ?_
    exact ct_none
theorem mt_J6_append_2 {l : Launch} {D : cz_D} {l0 : Option Nat} {l1 : Option Nat} {h : cz_H} {oh : cz_O × cz_H} (hz : fn_J6_append_2 l0 l1 h = some oh) : cz_M l D yJ6_append_2 (ws_ yJ6_append_2 cJ6_append_2 3 ((Option.some (Jvm.ClassFile.FieldType.object "java/lang/AbstractStringBuilder")))) 6 [cz_r l0, cz_r l1] h oh := cz_met (plainFor_of_name (by decide)) (Nat.le_of_ble_eq_true rfl) hz (fun K hl S => wk_J6_append_2 S)
/-! java/lang/StringBuilder.append(Ljava/lang/String;)Ljava/lang/StringBuilder; -/
def dkwJ7_append_2_0 : List UInt8 := [42, 43, 183, 0, 29, 87, 42, 176]
abbrev dktJ7_append_2_0 : List UInt8 := dkwJ7_append_2_0 ++ []
theorem dksJ7_append_2_0 : cJ7_append_2.data.toList.drop 0 = dktJ7_append_2_0 := by decide +kernel
theorem dJ7_append_2_0 : decode cJ7_append_2 0 = .ok (.aload_n 0, 1) := dk_42 (dk_at dksJ7_append_2_0 0 rfl rfl)
theorem dJ7_append_2_1 : decode cJ7_append_2 1 = .ok (.aload_n 1, 1) := dk_43 (dk_at dksJ7_append_2_0 1 rfl rfl)
theorem dJ7_append_2_2 : decode cJ7_append_2 2 = .ok (.invokespecial 29, 3) := dk_183 0 29 (dk_at dksJ7_append_2_0 2 rfl rfl)
theorem dJ7_append_2_5 : decode cJ7_append_2 5 = .ok (.pop, 1) := dk_87 (dk_at dksJ7_append_2_0 5 rfl rfl)
theorem dJ7_append_2_6 : decode cJ7_append_2 6 = .ok (.aload_n 0, 1) := dk_42 (dk_at dksJ7_append_2_0 6 rfl rfl)
theorem dJ7_append_2_7 : decode cJ7_append_2 7 = .ok (.areturn, 1) := dk_176 (dk_at dksJ7_append_2_0 7 rfl rfl)
theorem nh_java_lang_AbstractStringBuilder_append__Ljava_lang_String__Ljava_lang_AbstractStringBuilder_ : cz_nh ⟨"java/lang/AbstractStringBuilder", "append", "(Ljava/lang/String;)Ljava/lang/AbstractStringBuilder;"⟩ 1 := ⟨by decide, by decide, by decide +kernel⟩
set_option maxHeartbeats 4000000 in
set_option maxRecDepth 100000 in
noncomputable def fn_J7_append_2 (l0 : Option Nat) (l1 : Option Nat) (h : cz_H) : cz_Z := cz_rc h l0 [7] (cz_cR (fn_J6_append_2 l0 l1 h) (fun r8 h7 => some (.inl (some (cz_r l0)), h7)))
set_option maxHeartbeats 4000000 in
set_option maxRecDepth 100000 in
theorem wk_J7_append_2 {K : cz_K} {D : cz_D} {h0 : cz_H} {oh : cz_O × cz_H} {l0 : Option Nat} {l1 : Option Nat} {h : cz_H} (S : cz_S K D h0 cJ7_append_2 2 "java/lang/StringBuilder" ((Option.some (Jvm.ClassFile.FieldType.object "java/lang/StringBuilder"))) "append" ([])) : cz_T K D 7 h0 oh 2 (fn_J7_append_2 l0 l1 h) h 0 [(0, cz_r l0), (1, cz_r l1)] [] := by
  unfold fn_J7_append_2
  refine ct_aload_n (k := 0) S dJ7_append_2_0 rfl rfl ?_
  refine ct_aload_n (k := 1) S dJ7_append_2_1 rfl rfl ?_
  refine ct_rc (fun b1 ci2 V3 hb4 hc5 hi6 => ?_)
  refine ct_cR (st := []) (cg_super (av := [cz_r l1]) S hb4 hc5 (fun _ e => mt_J6_append_2 e) q837 q835 q2513 q562 (by decide) q836 q126 nh_java_lang_AbstractStringBuilder_append__Ljava_lang_String__Ljava_lang_AbstractStringBuilder_ (by decide) (by decide) (Nat.le_of_ble_eq_true rfl) rfl dJ7_append_2_2) (fun r8 h7 => ?_)
  refine ct_pop S dJ7_append_2_5 rfl ?_
  refine ct_aload_n (k := 0) S dJ7_append_2_6 rfl rfl ?_
  exact ct_aret S rfl (Or.inl ⟨_, rfl⟩) dJ7_append_2_7
theorem mt_J7_append_2 {l : Launch} {D : cz_D} {l0 : Option Nat} {l1 : Option Nat} {h : cz_H} {oh : cz_O × cz_H} (hz : fn_J7_append_2 l0 l1 h = some oh) : cz_M l D yJ7_append_2 (ws_ yJ7_append_2 cJ7_append_2 2 ((Option.some (Jvm.ClassFile.FieldType.object "java/lang/StringBuilder")))) 7 [cz_r l0, cz_r l1] h oh := cz_met (plainFor_of_name (by decide)) (Nat.le_of_ble_eq_true rfl) hz (fun K hl S => wk_J7_append_2 S)
/-! java/lang/StringLatin1.indexOf([BI[BII)I -/
def dkwJ12_indexOf_2_5 : List UInt8 := [167, 255, 154, 2, 172]
abbrev dktJ12_indexOf_2_5 : List UInt8 := dkwJ12_indexOf_2_5 ++ []
def dkwJ12_indexOf_2_4 : List UInt8 := [132, 8, 1, 132, 10, 1, 167, 255, 232, 21, 8, 21, 9, 160, 0, 6, 21, 7, 172, 132, 7, 1]
abbrev dktJ12_indexOf_2_4 : List UInt8 := dkwJ12_indexOf_2_4 ++ dktJ12_indexOf_2_5
def dkwJ12_indexOf_2_3 : List UInt8 := [100, 54, 9, 4, 54, 10, 21, 8, 21, 9, 162, 0, 23, 42, 21, 8, 51, 44, 21, 10, 51, 160, 0, 12]
abbrev dktJ12_indexOf_2_3 : List UInt8 := dkwJ12_indexOf_2_3 ++ dktJ12_indexOf_2_4
def dkwJ12_indexOf_2_2 : List UInt8 := [159, 0, 6, 167, 255, 237, 21, 7, 21, 6, 163, 0, 57, 21, 7, 4, 96, 54, 8, 21, 8, 29, 96, 4]
abbrev dktJ12_indexOf_2_2 : List UInt8 := dkwJ12_indexOf_2_2 ++ dktJ12_indexOf_2_3
def dkwJ12_indexOf_2_1 : List UInt8 := [51, 21, 5, 159, 0, 25, 132, 7, 1, 21, 7, 21, 6, 163, 0, 15, 42, 21, 7, 51, 21, 5]
abbrev dktJ12_indexOf_2_1 : List UInt8 := dkwJ12_indexOf_2_1 ++ dktJ12_indexOf_2_2
def dkwJ12_indexOf_2_0 : List UInt8 := [44, 3, 51, 54, 5, 27, 29, 100, 54, 6, 21, 4, 54, 7, 21, 7, 21, 6, 163, 0, 101, 42, 21, 7]
abbrev dktJ12_indexOf_2_0 : List UInt8 := dkwJ12_indexOf_2_0 ++ dktJ12_indexOf_2_1
theorem dksJ12_indexOf_2_0 : cJ12_indexOf_2.data.toList.drop 0 = dktJ12_indexOf_2_0 := by decide +kernel
theorem dksJ12_indexOf_2_1 : cJ12_indexOf_2.data.toList.drop 24 = dktJ12_indexOf_2_1 := dk_seg dksJ12_indexOf_2_0 24 rfl rfl
theorem dksJ12_indexOf_2_2 : cJ12_indexOf_2.data.toList.drop 46 = dktJ12_indexOf_2_2 := dk_seg dksJ12_indexOf_2_1 22 rfl rfl
theorem dksJ12_indexOf_2_3 : cJ12_indexOf_2.data.toList.drop 70 = dktJ12_indexOf_2_3 := dk_seg dksJ12_indexOf_2_2 24 rfl rfl
theorem dksJ12_indexOf_2_4 : cJ12_indexOf_2.data.toList.drop 94 = dktJ12_indexOf_2_4 := dk_seg dksJ12_indexOf_2_3 24 rfl rfl
theorem dksJ12_indexOf_2_5 : cJ12_indexOf_2.data.toList.drop 116 = dktJ12_indexOf_2_5 := dk_seg dksJ12_indexOf_2_4 22 rfl rfl
theorem dJ12_indexOf_2_0 : decode cJ12_indexOf_2 0 = .ok (.aload_n 2, 1) := dk_44 (dk_at dksJ12_indexOf_2_0 0 rfl rfl)
theorem dJ12_indexOf_2_1 : decode cJ12_indexOf_2 1 = .ok (.iconst 0, 1) := dk_3 (dk_at dksJ12_indexOf_2_0 1 rfl rfl)
theorem dJ12_indexOf_2_2 : decode cJ12_indexOf_2 2 = .ok (.baload, 1) := dk_51 (dk_at dksJ12_indexOf_2_0 2 rfl rfl)
theorem dJ12_indexOf_2_3 : decode cJ12_indexOf_2 3 = .ok (.istore 5, 2) := dk_54 5 (dk_at dksJ12_indexOf_2_0 3 rfl rfl)
theorem dJ12_indexOf_2_5 : decode cJ12_indexOf_2 5 = .ok (.iload_n 1, 1) := dk_27 (dk_at dksJ12_indexOf_2_0 5 rfl rfl)
theorem dJ12_indexOf_2_6 : decode cJ12_indexOf_2 6 = .ok (.iload_n 3, 1) := dk_29 (dk_at dksJ12_indexOf_2_0 6 rfl rfl)
theorem dJ12_indexOf_2_7 : decode cJ12_indexOf_2 7 = .ok (.isub, 1) := dk_100 (dk_at dksJ12_indexOf_2_0 7 rfl rfl)
theorem dJ12_indexOf_2_8 : decode cJ12_indexOf_2 8 = .ok (.istore 6, 2) := dk_54 6 (dk_at dksJ12_indexOf_2_0 8 rfl rfl)
theorem dJ12_indexOf_2_10 : decode cJ12_indexOf_2 10 = .ok (.iload 4, 2) := dk_21 4 (dk_at dksJ12_indexOf_2_0 10 rfl rfl)
theorem dJ12_indexOf_2_12 : decode cJ12_indexOf_2 12 = .ok (.istore 7, 2) := dk_54 7 (dk_at dksJ12_indexOf_2_0 12 rfl rfl)
theorem dJ12_indexOf_2_14 : decode cJ12_indexOf_2 14 = .ok (.iload 7, 2) := dk_21 7 (dk_at dksJ12_indexOf_2_0 14 rfl rfl)
theorem dJ12_indexOf_2_16 : decode cJ12_indexOf_2 16 = .ok (.iload 6, 2) := dk_21 6 (dk_at dksJ12_indexOf_2_0 16 rfl rfl)
theorem dJ12_indexOf_2_18 : decode cJ12_indexOf_2 18 = .ok (.if_icmp .gt 101, 3) := dk_163 0 101 (dk_at dksJ12_indexOf_2_0 18 rfl rfl)
theorem dJ12_indexOf_2_21 : decode cJ12_indexOf_2 21 = .ok (.aload_n 0, 1) := dk_42 (dk_at dksJ12_indexOf_2_0 21 rfl rfl)
theorem dJ12_indexOf_2_22 : decode cJ12_indexOf_2 22 = .ok (.iload 7, 2) := dk_21 7 (dk_at dksJ12_indexOf_2_0 22 rfl rfl)
theorem dJ12_indexOf_2_24 : decode cJ12_indexOf_2 24 = .ok (.baload, 1) := dk_51 (dk_at dksJ12_indexOf_2_1 0 rfl rfl)
theorem dJ12_indexOf_2_25 : decode cJ12_indexOf_2 25 = .ok (.iload 5, 2) := dk_21 5 (dk_at dksJ12_indexOf_2_1 1 rfl rfl)
theorem dJ12_indexOf_2_27 : decode cJ12_indexOf_2 27 = .ok (.if_icmp .eq 25, 3) := dk_159 0 25 (dk_at dksJ12_indexOf_2_1 3 rfl rfl)
theorem dJ12_indexOf_2_30 : decode cJ12_indexOf_2 30 = .ok (.iinc 7 1, 3) := dk_132 7 1 (dk_at dksJ12_indexOf_2_1 6 rfl rfl)
theorem dJ12_indexOf_2_33 : decode cJ12_indexOf_2 33 = .ok (.iload 7, 2) := dk_21 7 (dk_at dksJ12_indexOf_2_1 9 rfl rfl)
theorem dJ12_indexOf_2_35 : decode cJ12_indexOf_2 35 = .ok (.iload 6, 2) := dk_21 6 (dk_at dksJ12_indexOf_2_1 11 rfl rfl)
theorem dJ12_indexOf_2_37 : decode cJ12_indexOf_2 37 = .ok (.if_icmp .gt 15, 3) := dk_163 0 15 (dk_at dksJ12_indexOf_2_1 13 rfl rfl)
theorem dJ12_indexOf_2_40 : decode cJ12_indexOf_2 40 = .ok (.aload_n 0, 1) := dk_42 (dk_at dksJ12_indexOf_2_1 16 rfl rfl)
theorem dJ12_indexOf_2_41 : decode cJ12_indexOf_2 41 = .ok (.iload 7, 2) := dk_21 7 (dk_at dksJ12_indexOf_2_1 17 rfl rfl)
theorem dJ12_indexOf_2_43 : decode cJ12_indexOf_2 43 = .ok (.baload, 1) := dk_51 (dk_at dksJ12_indexOf_2_1 19 rfl rfl)
theorem dJ12_indexOf_2_44 : decode cJ12_indexOf_2 44 = .ok (.iload 5, 2) := dk_21 5 (dk_at dksJ12_indexOf_2_1 20 rfl rfl)
theorem dJ12_indexOf_2_46 : decode cJ12_indexOf_2 46 = .ok (.if_icmp .eq 6, 3) := dk_159 0 6 (dk_at dksJ12_indexOf_2_2 0 rfl rfl)
theorem dJ12_indexOf_2_49 : decode cJ12_indexOf_2 49 = .ok (.goto (-19), 3) := dk_167 255 237 (dk_at dksJ12_indexOf_2_2 3 rfl rfl)
theorem dJ12_indexOf_2_52 : decode cJ12_indexOf_2 52 = .ok (.iload 7, 2) := dk_21 7 (dk_at dksJ12_indexOf_2_2 6 rfl rfl)
theorem dJ12_indexOf_2_54 : decode cJ12_indexOf_2 54 = .ok (.iload 6, 2) := dk_21 6 (dk_at dksJ12_indexOf_2_2 8 rfl rfl)
theorem dJ12_indexOf_2_56 : decode cJ12_indexOf_2 56 = .ok (.if_icmp .gt 57, 3) := dk_163 0 57 (dk_at dksJ12_indexOf_2_2 10 rfl rfl)
theorem dJ12_indexOf_2_59 : decode cJ12_indexOf_2 59 = .ok (.iload 7, 2) := dk_21 7 (dk_at dksJ12_indexOf_2_2 13 rfl rfl)
theorem dJ12_indexOf_2_61 : decode cJ12_indexOf_2 61 = .ok (.iconst 1, 1) := dk_4 (dk_at dksJ12_indexOf_2_2 15 rfl rfl)
theorem dJ12_indexOf_2_62 : decode cJ12_indexOf_2 62 = .ok (.iadd, 1) := dk_96 (dk_at dksJ12_indexOf_2_2 16 rfl rfl)
theorem dJ12_indexOf_2_63 : decode cJ12_indexOf_2 63 = .ok (.istore 8, 2) := dk_54 8 (dk_at dksJ12_indexOf_2_2 17 rfl rfl)
theorem dJ12_indexOf_2_65 : decode cJ12_indexOf_2 65 = .ok (.iload 8, 2) := dk_21 8 (dk_at dksJ12_indexOf_2_2 19 rfl rfl)
theorem dJ12_indexOf_2_67 : decode cJ12_indexOf_2 67 = .ok (.iload_n 3, 1) := dk_29 (dk_at dksJ12_indexOf_2_2 21 rfl rfl)
theorem dJ12_indexOf_2_68 : decode cJ12_indexOf_2 68 = .ok (.iadd, 1) := dk_96 (dk_at dksJ12_indexOf_2_2 22 rfl rfl)
theorem dJ12_indexOf_2_69 : decode cJ12_indexOf_2 69 = .ok (.iconst 1, 1) := dk_4 (dk_at dksJ12_indexOf_2_2 23 rfl rfl)
theorem dJ12_indexOf_2_70 : decode cJ12_indexOf_2 70 = .ok (.isub, 1) := dk_100 (dk_at dksJ12_indexOf_2_3 0 rfl rfl)
theorem dJ12_indexOf_2_71 : decode cJ12_indexOf_2 71 = .ok (.istore 9, 2) := dk_54 9 (dk_at dksJ12_indexOf_2_3 1 rfl rfl)
theorem dJ12_indexOf_2_73 : decode cJ12_indexOf_2 73 = .ok (.iconst 1, 1) := dk_4 (dk_at dksJ12_indexOf_2_3 3 rfl rfl)
theorem dJ12_indexOf_2_74 : decode cJ12_indexOf_2 74 = .ok (.istore 10, 2) := dk_54 10 (dk_at dksJ12_indexOf_2_3 4 rfl rfl)
theorem dJ12_indexOf_2_76 : decode cJ12_indexOf_2 76 = .ok (.iload 8, 2) := dk_21 8 (dk_at dksJ12_indexOf_2_3 6 rfl rfl)
theorem dJ12_indexOf_2_78 : decode cJ12_indexOf_2 78 = .ok (.iload 9, 2) := dk_21 9 (dk_at dksJ12_indexOf_2_3 8 rfl rfl)
theorem dJ12_indexOf_2_80 : decode cJ12_indexOf_2 80 = .ok (.if_icmp .ge 23, 3) := dk_162 0 23 (dk_at dksJ12_indexOf_2_3 10 rfl rfl)
theorem dJ12_indexOf_2_83 : decode cJ12_indexOf_2 83 = .ok (.aload_n 0, 1) := dk_42 (dk_at dksJ12_indexOf_2_3 13 rfl rfl)
theorem dJ12_indexOf_2_84 : decode cJ12_indexOf_2 84 = .ok (.iload 8, 2) := dk_21 8 (dk_at dksJ12_indexOf_2_3 14 rfl rfl)
theorem dJ12_indexOf_2_86 : decode cJ12_indexOf_2 86 = .ok (.baload, 1) := dk_51 (dk_at dksJ12_indexOf_2_3 16 rfl rfl)
theorem dJ12_indexOf_2_87 : decode cJ12_indexOf_2 87 = .ok (.aload_n 2, 1) := dk_44 (dk_at dksJ12_indexOf_2_3 17 rfl rfl)
theorem dJ12_indexOf_2_88 : decode cJ12_indexOf_2 88 = .ok (.iload 10, 2) := dk_21 10 (dk_at dksJ12_indexOf_2_3 18 rfl rfl)
theorem dJ12_indexOf_2_90 : decode cJ12_indexOf_2 90 = .ok (.baload, 1) := dk_51 (dk_at dksJ12_indexOf_2_3 20 rfl rfl)
theorem dJ12_indexOf_2_91 : decode cJ12_indexOf_2 91 = .ok (.if_icmp .ne 12, 3) := dk_160 0 12 (dk_at dksJ12_indexOf_2_3 21 rfl rfl)
theorem dJ12_indexOf_2_94 : decode cJ12_indexOf_2 94 = .ok (.iinc 8 1, 3) := dk_132 8 1 (dk_at dksJ12_indexOf_2_4 0 rfl rfl)
theorem dJ12_indexOf_2_97 : decode cJ12_indexOf_2 97 = .ok (.iinc 10 1, 3) := dk_132 10 1 (dk_at dksJ12_indexOf_2_4 3 rfl rfl)
theorem dJ12_indexOf_2_100 : decode cJ12_indexOf_2 100 = .ok (.goto (-24), 3) := dk_167 255 232 (dk_at dksJ12_indexOf_2_4 6 rfl rfl)
theorem dJ12_indexOf_2_103 : decode cJ12_indexOf_2 103 = .ok (.iload 8, 2) := dk_21 8 (dk_at dksJ12_indexOf_2_4 9 rfl rfl)
theorem dJ12_indexOf_2_105 : decode cJ12_indexOf_2 105 = .ok (.iload 9, 2) := dk_21 9 (dk_at dksJ12_indexOf_2_4 11 rfl rfl)
theorem dJ12_indexOf_2_107 : decode cJ12_indexOf_2 107 = .ok (.if_icmp .ne 6, 3) := dk_160 0 6 (dk_at dksJ12_indexOf_2_4 13 rfl rfl)
theorem dJ12_indexOf_2_110 : decode cJ12_indexOf_2 110 = .ok (.iload 7, 2) := dk_21 7 (dk_at dksJ12_indexOf_2_4 16 rfl rfl)
theorem dJ12_indexOf_2_112 : decode cJ12_indexOf_2 112 = .ok (.ireturn, 1) := dk_172 (dk_at dksJ12_indexOf_2_4 18 rfl rfl)
theorem dJ12_indexOf_2_113 : decode cJ12_indexOf_2 113 = .ok (.iinc 7 1, 3) := dk_132 7 1 (dk_at dksJ12_indexOf_2_4 19 rfl rfl)
theorem dJ12_indexOf_2_116 : decode cJ12_indexOf_2 116 = .ok (.goto (-102), 3) := dk_167 255 154 (dk_at dksJ12_indexOf_2_5 0 rfl rfl)
theorem dJ12_indexOf_2_119 : decode cJ12_indexOf_2 119 = .ok (.iconst (-1), 1) := dk_2 (dk_at dksJ12_indexOf_2_5 3 rfl rfl)
theorem dJ12_indexOf_2_120 : decode cJ12_indexOf_2 120 = .ok (.ireturn, 1) := dk_172 (dk_at dksJ12_indexOf_2_5 4 rfl rfl)
set_option maxHeartbeats 4000000 in
set_option maxRecDepth 100000 in
noncomputable def fn_J12_indexOf_2_76 (l0 : Option Nat) (l2 : Option Nat) (l9 : Int32) (k0 : Int32 → cz_H → cz_Z) : Nat → Int32 → Int32 → cz_H → cz_Z
  | 0, _, _, _ => none
  | n + 1, l8, l10, h => (if l9 ≤ l8 then k0 l8 h else cz_bald h l0 l8 (fun x9 => cz_bald h l2 l10 (fun x10 => (if x9 = x10 then cz_leti (l8 + 1) (fun x11 => cz_leti (l10 + 1) (fun x12 => fn_J12_indexOf_2_76 l0 l2 l9 k0 n x11 x12 h)) else k0 l8 h))))
set_option maxHeartbeats 4000000 in
set_option maxRecDepth 100000 in
theorem wk_J12_indexOf_2_76 {K : cz_K} {D : cz_D} {h0 : cz_H} {oh : cz_O × cz_H} {l0 : Option Nat} {l2 : Option Nat} {l9 : Int32} {l3 : Int32} {l5 : Int32} {l6 : Int32} {l7 : Int32} {k0 : Int32 → cz_H → cz_Z} (S : cz_S K D h0 cJ12_indexOf_2 11 "java/lang/StringLatin1" ((Option.some Jvm.ClassFile.FieldType.int)) "indexOf" ([])) (hk0 : ∀ (e8 : Int32) (h : cz_H), cz_T K D 2 h0 oh 11 (k0 e8 h) h 103 [(0, cz_r l0), (2, cz_r l2), (3, cz_i l3), (5, cz_i l5), (6, cz_i l6), (7, cz_i l7), (8, cz_i e8), (9, cz_i l9)] []) : ∀ (n : Nat) (l8 : Int32) (l10 : Int32) (h : cz_H), cz_T K D 2 h0 oh 11 (fn_J12_indexOf_2_76 l0 l2 l9 k0 n l8 l10 h) h 76 [(0, cz_r l0), (2, cz_r l2), (3, cz_i l3), (5, cz_i l5), (6, cz_i l6), (7, cz_i l7), (8, cz_i l8), (9, cz_i l9), (10, cz_i l10)] [] := by
  intro n
  induction n with
  | zero => intros; exact ct_none
  | succ n ih =>
    intro l8 l10 h
    rw [fn_J12_indexOf_2_76]
    refine ct_iload (k := 6) S dJ12_indexOf_2_76 rfl ?_
    refine ct_iload (k := 7) S dJ12_indexOf_2_78 rfl ?_
    refine ct_icmp_ge (tgt := 103) S dJ12_indexOf_2_80 (by decide) ?_ ?_
    · exact ct_sub [0, 1, 2, 3, 4, 5, 6, 7] rfl (hk0 l8 h)
    · refine ct_aload_n (k := 0) S dJ12_indexOf_2_83 rfl rfl ?_
      refine ct_iload (k := 6) S dJ12_indexOf_2_84 rfl ?_
      refine ct_bald S dJ12_indexOf_2_86 (fun x9 => ?_)
      refine ct_aload_n (k := 1) S dJ12_indexOf_2_87 rfl rfl ?_
      refine ct_iload (k := 8) S dJ12_indexOf_2_88 rfl ?_
      refine ct_bald S dJ12_indexOf_2_90 (fun x10 => ?_)
      refine ct_icmp_ne (tgt := 103) S dJ12_indexOf_2_91 (by decide) ?_ ?_
      · exact ct_sub [0, 1, 2, 3, 4, 5, 6, 7] rfl (hk0 l8 h)
      · refine ct_iincL (j := 6) (L2 := fun x11 => [(8, cz_i x11), (0, cz_r l0), (2, cz_r l2), (3, cz_i l3), (5, cz_i l5), (6, cz_i l6), (7, cz_i l7), (9, cz_i l9), (10, cz_i l10)]) S dJ12_indexOf_2_94 rfl kI_1 (by decide) (fun _ => rfl) (fun x11 => ?_)
        refine ct_iincL (j := 8) (L2 := fun x12 => [(10, cz_i x12), (8, cz_i x11), (0, cz_r l0), (2, cz_r l2), (3, cz_i l3), (5, cz_i l5), (6, cz_i l6), (7, cz_i l7), (9, cz_i l9)]) S dJ12_indexOf_2_97 rfl kI_1 (by decide) (fun _ => rfl) (fun x12 => ?_)
        refine ct_goto (tgt := 76) S dJ12_indexOf_2_100 (by decide) ?_
        exact ct_sub [2, 3, 4, 5, 6, 7, 1, 8, 0] rfl (ih x11 x12 h)
set_option maxHeartbeats 4000000 in
set_option maxRecDepth 100000 in
noncomputable def fn_J12_indexOf_2_30 (l0 : Option Nat) (l5 : Int32) (l6 : Int32) (k0 : Int32 → cz_H → cz_Z) : Nat → Int32 → cz_H → cz_Z
  | 0, _, _ => none
  | n + 1, l7, h => cz_leti (l7 + 1) (fun x17 => (if l6 < x17 then k0 x17 h else cz_bald h l0 x17 (fun x18 => (if x18 = l5 then k0 x17 h else fn_J12_indexOf_2_30 l0 l5 l6 k0 n x17 h))))
set_option maxHeartbeats 4000000 in
set_option maxRecDepth 100000 in
theorem wk_J12_indexOf_2_30 {K : cz_K} {D : cz_D} {h0 : cz_H} {oh : cz_O × cz_H} {l0 : Option Nat} {l5 : Int32} {l6 : Int32} {l2 : Option Nat} {l3 : Int32} {k0 : Int32 → cz_H → cz_Z} (S : cz_S K D h0 cJ12_indexOf_2 11 "java/lang/StringLatin1" ((Option.some Jvm.ClassFile.FieldType.int)) "indexOf" ([])) (hk0 : ∀ (e7 : Int32) (h : cz_H), cz_T K D 2 h0 oh 11 (k0 e7 h) h 52 [(0, cz_r l0), (2, cz_r l2), (3, cz_i l3), (5, cz_i l5), (6, cz_i l6), (7, cz_i e7)] []) : ∀ (n : Nat) (l7 : Int32) (h : cz_H), cz_T K D 2 h0 oh 11 (fn_J12_indexOf_2_30 l0 l5 l6 k0 n l7 h) h 30 [(0, cz_r l0), (2, cz_r l2), (3, cz_i l3), (5, cz_i l5), (6, cz_i l6), (7, cz_i l7)] [] := by
  intro n
  induction n with
  | zero => intros; exact ct_none
  | succ n ih =>
    intro l7 h
    rw [fn_J12_indexOf_2_30]
    refine ct_iincL (j := 5) (L2 := fun x17 => [(7, cz_i x17), (0, cz_r l0), (2, cz_r l2), (3, cz_i l3), (5, cz_i l5), (6, cz_i l6)]) S dJ12_indexOf_2_30 rfl kI_1 (by decide) (fun _ => rfl) (fun x17 => ?_)
    refine ct_iload (k := 0) S dJ12_indexOf_2_33 rfl ?_
    refine ct_iload (k := 5) S dJ12_indexOf_2_35 rfl ?_
    refine ct_icmp_gt (tgt := 52) S dJ12_indexOf_2_37 (by decide) ?_ ?_
    · exact ct_sub [1, 2, 3, 4, 5, 0] rfl (hk0 x17 h)
    · refine ct_aload_n (k := 1) S dJ12_indexOf_2_40 rfl rfl ?_
      refine ct_iload (k := 0) S dJ12_indexOf_2_41 rfl ?_
      refine ct_bald S dJ12_indexOf_2_43 (fun x18 => ?_)
      refine ct_iload (k := 4) S dJ12_indexOf_2_44 rfl ?_
      refine ct_icmp_eq (tgt := 52) S dJ12_indexOf_2_46 (by decide) ?_ ?_
      · exact ct_sub [1, 2, 3, 4, 5, 0] rfl (hk0 x17 h)
      · refine ct_goto (tgt := 30) S dJ12_indexOf_2_49 (by decide) ?_
        exact ct_sub [1, 2, 3, 4, 5, 0] rfl (ih x17 h)
set_option maxHeartbeats 4000000 in
set_option maxRecDepth 100000 in
noncomputable def fn_J12_indexOf_2_14 (l0 : Option Nat) (l2 : Option Nat) (l3 : Int32) (l5 : Int32) (l6 : Int32) (k0 : Int32 → cz_H → cz_Z) (k1 : cz_H → cz_Z) : Nat → Int32 → cz_H → cz_Z
  | 0, _, _ => none
  | n + 1, l7, h => (if l6 < l7 then k1 h else cz_bald h l0 l7 (fun x3 => cz_jn (fun (v4 : Int32) (h5 : cz_H) => (if l6 < v4 then cz_leti (v4 + 1) (fun x6 => fn_J12_indexOf_2_14 l0 l2 l3 l5 l6 k0 k1 n x6 h5) else cz_leti (v4 + 1) (fun x7 => cz_leti ((x7 + l3) - 1) (fun x8 => fn_J12_indexOf_2_76 l0 l2 x8 (fun (e13 : Int32) (h14 : cz_H) => (if e13 = x8 then k0 v4 h14 else cz_leti (v4 + 1) (fun x15 => fn_J12_indexOf_2_14 l0 l2 l3 l5 l6 k0 k1 n x15 h14))) 1000 x7 1 h5)))) (fun j16 => (if x3 = l5 then j16 l7 h else fn_J12_indexOf_2_30 l0 l5 l6 (fun (e19 : Int32) (h20 : cz_H) => j16 e19 h20) 1000 l7 h))))
set_option maxHeartbeats 4000000 in
set_option maxRecDepth 100000 in
theorem wk_J12_indexOf_2_14 {K : cz_K} {D : cz_D} {h0 : cz_H} {oh : cz_O × cz_H} {l0 : Option Nat} {l2 : Option Nat} {l3 : Int32} {l5 : Int32} {l6 : Int32} {k0 : Int32 → cz_H → cz_Z} {k1 : cz_H → cz_Z} (S : cz_S K D h0 cJ12_indexOf_2 11 "java/lang/StringLatin1" ((Option.some Jvm.ClassFile.FieldType.int)) "indexOf" ([])) (hk0 : ∀ (e7 : Int32) (h : cz_H), cz_T K D 2 h0 oh 11 (k0 e7 h) h 110 [(7, cz_i e7)] []) (hk1 : ∀ (h : cz_H), cz_T K D 2 h0 oh 11 (k1 h) h 119 [] []) : ∀ (n : Nat) (l7 : Int32) (h : cz_H), cz_T K D 2 h0 oh 11 (fn_J12_indexOf_2_14 l0 l2 l3 l5 l6 k0 k1 n l7 h) h 14 [(0, cz_r l0), (2, cz_r l2), (3, cz_i l3), (5, cz_i l5), (6, cz_i l6), (7, cz_i l7)] [] := by
  intro n
  induction n with
  | zero => intros; exact ct_none
  | succ n ih =>
    intro l7 h
    rw [fn_J12_indexOf_2_14]
    refine ct_iload (k := 5) S dJ12_indexOf_2_14 rfl ?_
    refine ct_iload (k := 4) S dJ12_indexOf_2_16 rfl ?_
    refine ct_icmp_gt (tgt := 119) S dJ12_indexOf_2_18 (by decide) ?_ ?_
    · exact ct_sub [] rfl (hk1 h)
    · refine ct_aload_n (k := 0) S dJ12_indexOf_2_21 rfl rfl ?_
      refine ct_iload (k := 5) S dJ12_indexOf_2_22 rfl ?_
      refine ct_bald S dJ12_indexOf_2_24 (fun x3 => ?_)
      refine ct_iload (k := 3) S dJ12_indexOf_2_25 rfl ?_
      refine ct_jnP (fun j16 => ∀ (v4 : Int32) (h5 : cz_H), cz_T K D 2 h0 oh 11 (j16 v4 h5) h5 52 [(0, cz_r l0), (2, cz_r l2), (3, cz_i l3), (5, cz_i l5), (6, cz_i l6), (7, cz_i v4)] []) (fun v4 h5 => ?_) (fun j16 Hj16 => ?_)
      · refine ct_iload (k := 5) S dJ12_indexOf_2_52 rfl ?_
        refine ct_iload (k := 4) S dJ12_indexOf_2_54 rfl ?_
        refine ct_icmp_gt (tgt := 113) S dJ12_indexOf_2_56 (by decide) ?_ ?_
        · refine ct_iincL (j := 5) (L2 := fun x6 => [(7, cz_i x6), (0, cz_r l0), (2, cz_r l2), (3, cz_i l3), (5, cz_i l5), (6, cz_i l6)]) S dJ12_indexOf_2_113 rfl kI_1 (by decide) (fun _ => rfl) (fun x6 => ?_)
          refine ct_goto (tgt := 14) S dJ12_indexOf_2_116 (by decide) ?_
          exact ct_sub [1, 2, 3, 4, 5, 0] rfl (ih x6 h5)
        · refine ct_iload (k := 5) S dJ12_indexOf_2_59 rfl ?_
          refine ct_iconst (v := 1) S dJ12_indexOf_2_61 kI_1 ?_
          refine ct_iadd S dJ12_indexOf_2_62 ?_
          refine ct_leti (fun x7 => ?_)
          refine ct_istore (L' := [(8, cz_i x7), (0, cz_r l0), (2, cz_r l2), (3, cz_i l3), (5, cz_i l5), (6, cz_i l6), (7, cz_i v4)]) S dJ12_indexOf_2_63 (by decide) rfl ?_
          refine ct_iload (k := 0) S dJ12_indexOf_2_65 rfl ?_
          refine ct_iload_n (k := 3) S dJ12_indexOf_2_67 rfl rfl ?_
          refine ct_iadd S dJ12_indexOf_2_68 ?_
          refine ct_iconst (v := 1) S dJ12_indexOf_2_69 kI_1 ?_
          refine ct_isub S dJ12_indexOf_2_70 ?_
          refine ct_leti (fun x8 => ?_)
          refine ct_istore (L' := [(9, cz_i x8), (8, cz_i x7), (0, cz_r l0), (2, cz_r l2), (3, cz_i l3), (5, cz_i l5), (6, cz_i l6), (7, cz_i v4)]) S dJ12_indexOf_2_71 (by decide) rfl ?_
          refine ct_iconst (v := 1) S dJ12_indexOf_2_73 kI_1 ?_
          refine ct_istore (L' := [(10, cz_i 1), (9, cz_i x8), (8, cz_i x7), (0, cz_r l0), (2, cz_r l2), (3, cz_i l3), (5, cz_i l5), (6, cz_i l6), (7, cz_i v4)]) S dJ12_indexOf_2_74 (by decide) rfl ?_
          refine ct_sub [3, 4, 5, 6, 7, 8, 2, 1, 0] (L' := [(0, cz_r l0), (2, cz_r l2), (3, cz_i l3), (5, cz_i l5), (6, cz_i l6), (7, cz_i v4), (8, cz_i x7), (9, cz_i x8), (10, cz_i 1)]) rfl (wk_J12_indexOf_2_76 S ?_ 1000 x7 1 h5)
          · intro e13 h14
            refine ct_iload (k := 6) S dJ12_indexOf_2_103 rfl ?_
            refine ct_iload (k := 7) S dJ12_indexOf_2_105 rfl ?_
            refine ct_icmp_ne (tgt := 113) S dJ12_indexOf_2_107 (by decide) ?_ ?_
            · refine ct_iincL (j := 5) (L2 := fun x15 => [(7, cz_i x15), (0, cz_r l0), (2, cz_r l2), (3, cz_i l3), (5, cz_i l5), (6, cz_i l6), (8, cz_i e13), (9, cz_i x8)]) S dJ12_indexOf_2_113 rfl kI_1 (by decide) (fun _ => rfl) (fun x15 => ?_)
              refine ct_goto (tgt := 14) S dJ12_indexOf_2_116 (by decide) ?_
              exact ct_sub [1, 2, 3, 4, 5, 0] rfl (ih x15 h14)
            · exact ct_sub [5] rfl (hk0 v4 h14)
      · refine ct_icmp_eq (tgt := 52) S dJ12_indexOf_2_27 (by decide) ?_ ?_
        · exact Hj16 l7 h
        · refine ct_sub [0, 1, 2, 3, 4, 5] (L' := [(0, cz_r l0), (2, cz_r l2), (3, cz_i l3), (5, cz_i l5), (6, cz_i l6), (7, cz_i l7)]) rfl (wk_J12_indexOf_2_30 S ?_ 1000 l7 h)
          · intro e19 h20
            exact Hj16 e19 h20
set_option maxHeartbeats 4000000 in
set_option maxRecDepth 100000 in
noncomputable def fn_J12_indexOf_2 (l0 : Option Nat) (l1 : Int32) (l2 : Option Nat) (l3 : Int32) (l4 : Int32) (h : cz_H) : cz_Z := cz_bald h l2 0 (fun x1 => cz_leti (l1 - l3) (fun x2 => fn_J12_indexOf_2_14 l0 l2 l3 x1 x2 (fun (e21 : Int32) (h22 : cz_H) => some (.inl (some (cz_i e21)), h22)) (fun (h23 : cz_H) => some (.inl (some (cz_i (-1))), h23)) 1000 l4 h))
set_option maxHeartbeats 4000000 in
set_option maxRecDepth 100000 in
theorem wk_J12_indexOf_2 {K : cz_K} {D : cz_D} {h0 : cz_H} {oh : cz_O × cz_H} {l0 : Option Nat} {l1 : Int32} {l2 : Option Nat} {l3 : Int32} {l4 : Int32} {h : cz_H} (S : cz_S K D h0 cJ12_indexOf_2 11 "java/lang/StringLatin1" ((Option.some Jvm.ClassFile.FieldType.int)) "indexOf" ([])) : cz_T K D 2 h0 oh 11 (fn_J12_indexOf_2 l0 l1 l2 l3 l4 h) h 0 [(0, cz_r l0), (1, cz_i l1), (2, cz_r l2), (3, cz_i l3), (4, cz_i l4)] [] := by
  unfold fn_J12_indexOf_2
  refine ct_aload_n (k := 2) S dJ12_indexOf_2_0 rfl rfl ?_
  refine ct_iconst (v := 0) S dJ12_indexOf_2_1 kI_0 ?_
  refine ct_bald S dJ12_indexOf_2_2 (fun x1 => ?_)
  refine ct_istore (L' := [(5, cz_i x1), (0, cz_r l0), (1, cz_i l1), (2, cz_r l2), (3, cz_i l3), (4, cz_i l4)]) S dJ12_indexOf_2_3 (by decide) rfl ?_
  refine ct_iload_n (k := 2) S dJ12_indexOf_2_5 rfl rfl ?_
  refine ct_iload_n (k := 4) S dJ12_indexOf_2_6 rfl rfl ?_
  refine ct_isub S dJ12_indexOf_2_7 ?_
  refine ct_leti (fun x2 => ?_)
  refine ct_istore (L' := [(6, cz_i x2), (5, cz_i x1), (0, cz_r l0), (1, cz_i l1), (2, cz_r l2), (3, cz_i l3), (4, cz_i l4)]) S dJ12_indexOf_2_8 (by decide) rfl ?_
  refine ct_iload (k := 6) S dJ12_indexOf_2_10 rfl ?_
  refine ct_istore (L' := [(7, cz_i l4), (6, cz_i x2), (5, cz_i x1), (0, cz_r l0), (1, cz_i l1), (2, cz_r l2), (3, cz_i l3), (4, cz_i l4)]) S dJ12_indexOf_2_12 (by decide) rfl ?_
  refine ct_sub [3, 5, 6, 2, 1, 0] (L' := [(0, cz_r l0), (2, cz_r l2), (3, cz_i l3), (5, cz_i x1), (6, cz_i x2), (7, cz_i l4)]) rfl (wk_J12_indexOf_2_14 S ?_ ?_ 1000 l4 h)
  · intro e21 h22
    refine ct_iload (k := 0) S dJ12_indexOf_2_110 rfl ?_
    exact ct_iret S rfl dJ12_indexOf_2_112
  · intro h23
    refine ct_iconst (v := (-1)) S dJ12_indexOf_2_119 kI_m1 ?_
    exact ct_iret S rfl dJ12_indexOf_2_120
theorem mt_J12_indexOf_2 {l : Launch} {D : cz_D} {l0 : Option Nat} {l1 : Int32} {l2 : Option Nat} {l3 : Int32} {l4 : Int32} {h : cz_H} {oh : cz_O × cz_H} (hz : fn_J12_indexOf_2 l0 l1 l2 l3 l4 h = some oh) : cz_M l D yJ12_indexOf_2 (ws_ yJ12_indexOf_2 cJ12_indexOf_2 11 ((Option.some Jvm.ClassFile.FieldType.int))) 2 [cz_r l0, cz_i l1, cz_r l2, cz_i l3, cz_i l4] h oh := cz_met (plainFor_of_name (by decide)) (Nat.le_of_ble_eq_true rfl) hz (fun K hl S => wk_J12_indexOf_2 S)
