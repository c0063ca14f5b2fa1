/-! methods of the class, 3 (printed by wip/D-98934w/gen) -/
set_option maxRecDepth 100000
/-! java/lang/StringLatin1.indexOf([B[B)I -/
def dkwJ12_indexOf_1 : List UInt8 := [172]
abbrev dktJ12_indexOf_1 : List UInt8 := dkwJ12_indexOf_1 ++ []
def dkwJ12_indexOf_0 : List UInt8 := [43, 190, 154, 0, 5, 3, 172, 42, 190, 154, 0, 5, 2, 172, 42, 42, 190, 43, 43, 190, 3, 184, 0, 99]
abbrev dktJ12_indexOf_0 : List UInt8 := dkwJ12_indexOf_0 ++ dktJ12_indexOf_1
theorem dksJ12_indexOf_0 : cJ12_indexOf.data.toList.drop 0 = dktJ12_indexOf_0 := by decide +kernel
theorem dksJ12_indexOf_1 : cJ12_indexOf.data.toList.drop 24 = dktJ12_indexOf_1 := dk_seg dksJ12_indexOf_0 24 rfl rfl
theorem dJ12_indexOf_0 : decode cJ12_indexOf 0 = .ok (.aload_n 1, 1) := dk_43 (dk_at dksJ12_indexOf_0 0 rfl rfl)
theorem dJ12_indexOf_1 : decode cJ12_indexOf 1 = .ok (.arraylength, 1) := dk_190 (dk_at dksJ12_indexOf_0 1 rfl rfl)
theorem dJ12_indexOf_2 : decode cJ12_indexOf 2 = .ok (.ifCond .ne 5, 3) := dk_154 0 5 (dk_at dksJ12_indexOf_0 2 rfl rfl)
theorem dJ12_indexOf_5 : decode cJ12_indexOf 5 = .ok (.iconst 0, 1) := dk_3 (dk_at dksJ12_indexOf_0 5 rfl rfl)
theorem dJ12_indexOf_6 : decode cJ12_indexOf 6 = .ok (.ireturn, 1) := dk_172 (dk_at dksJ12_indexOf_0 6 rfl rfl)
theorem dJ12_indexOf_7 : decode cJ12_indexOf 7 = .ok (.aload_n 0, 1) := dk_42 (dk_at dksJ12_indexOf_0 7 rfl rfl)
theorem dJ12_indexOf_8 : decode cJ12_indexOf 8 = .ok (.arraylength, 1) := dk_190 (dk_at dksJ12_indexOf_0 8 rfl rfl)
theorem dJ12_indexOf_9 : decode cJ12_indexOf 9 = .ok (.ifCond .ne 5, 3) := dk_154 0 5 (dk_at dksJ12_indexOf_0 9 rfl rfl)
theorem dJ12_indexOf_12 : decode cJ12_indexOf 12 = .ok (.iconst (-1), 1) := dk_2 (dk_at dksJ12_indexOf_0 12 rfl rfl)
theorem dJ12_indexOf_13 : decode cJ12_indexOf 13 = .ok (.ireturn, 1) := dk_172 (dk_at dksJ12_indexOf_0 13 rfl rfl)
theorem dJ12_indexOf_14 : decode cJ12_indexOf 14 = .ok (.aload_n 0, 1) := dk_42 (dk_at dksJ12_indexOf_0 14 rfl rfl)
theorem dJ12_indexOf_15 : decode cJ12_indexOf 15 = .ok (.aload_n 0, 1) := dk_42 (dk_at dksJ12_indexOf_0 15 rfl rfl)
theorem dJ12_indexOf_16 : decode cJ12_indexOf 16 = .ok (.arraylength, 1) := dk_190 (dk_at dksJ12_indexOf_0 16 rfl rfl)
theorem dJ12_indexOf_17 : decode cJ12_indexOf 17 = .ok (.aload_n 1, 1) := dk_43 (dk_at dksJ12_indexOf_0 17 rfl rfl)
theorem dJ12_indexOf_18 : decode cJ12_indexOf 18 = .ok (.aload_n 1, 1) := dk_43 (dk_at dksJ12_indexOf_0 18 rfl rfl)
theorem dJ12_indexOf_19 : decode cJ12_indexOf 19 = .ok (.arraylength, 1) := dk_190 (dk_at dksJ12_indexOf_0 19 rfl rfl)
theorem dJ12_indexOf_20 : decode cJ12_indexOf 20 = .ok (.iconst 0, 1) := dk_3 (dk_at dksJ12_indexOf_0 20 rfl rfl)
theorem dJ12_indexOf_21 : decode cJ12_indexOf 21 = .ok (.invokestatic 99, 3) := dk_184 0 99 (dk_at dksJ12_indexOf_0 21 rfl rfl)
theorem dJ12_indexOf_24 : decode cJ12_indexOf 24 = .ok (.ireturn, 1) := dk_172 (dk_at dksJ12_indexOf_1 0 rfl rfl)
theorem md_J12_indexOf_2 : cz_md yJ12_indexOf_2 11 (ws_ yJ12_indexOf_2 cJ12_indexOf_2 11 ((Option.some Jvm.ClassFile.FieldType.int))) 5 := ⟨cz_ws_code q890, q133, ⟨by decide, by decide, by decide +kernel⟩, by decide⟩
set_option maxHeartbeats 4000000 in
set_option maxRecDepth 100000 in
noncomputable def fn_J12_indexOf (l0 : Option Nat) (l1 : Option Nat) (h : cz_H) : cz_Z := cz_alen h l1 (fun x1 => (if x1 = 0 then some (.inl (some (cz_i 0)), h) else cz_alen h l0 (fun x2 => (if x2 = 0 then some (.inl (some (cz_i (-1))), h) else cz_alen h l0 (fun x3 => cz_alen h l1 (fun x4 => cz_cI (fn_J12_indexOf_2 l0 x3 l1 x4 0 h) (fun x6 h5 => some (.inl (some (cz_i x6)), h5))))))))
set_option maxHeartbeats 4000000 in
set_option maxRecDepth 100000 in
theorem wk_J12_indexOf {K : cz_K} {D : cz_D} {h0 : cz_H} {oh : cz_O × cz_H} {l0 : Option Nat} {l1 : Option Nat} {h : cz_H} (S : cz_S K D h0 cJ12_indexOf 2 "java/lang/StringLatin1" ((Option.some Jvm.ClassFile.FieldType.int)) "indexOf" ([])) : cz_T K D 3 h0 oh 2 (fn_J12_indexOf l0 l1 h) h 0 [(0, cz_r l0), (1, cz_r l1)] [] := by
  unfold fn_J12_indexOf
  refine ct_aload_n (k := 1) S dJ12_indexOf_0 rfl rfl ?_
  refine ct_alen S dJ12_indexOf_1 (fun x1 => ?_)
  refine ct_if_ne (tgt := 7) S dJ12_indexOf_2 (by decide) ?_ ?_
  · refine ct_aload_n (k := 0) S dJ12_indexOf_7 rfl rfl ?_
    refine ct_alen S dJ12_indexOf_8 (fun x2 => ?_)
    refine ct_if_ne (tgt := 14) S dJ12_indexOf_9 (by decide) ?_ ?_
    · refine ct_aload_n (k := 0) S dJ12_indexOf_14 rfl rfl ?_
      refine ct_aload_n (k := 0) S dJ12_indexOf_15 rfl rfl ?_
      refine ct_alen S dJ12_indexOf_16 (fun x3 => ?_)
      refine ct_aload_n (k := 1) S dJ12_indexOf_17 rfl rfl ?_
      refine ct_aload_n (k := 1) S dJ12_indexOf_18 rfl rfl ?_
      refine ct_alen S dJ12_indexOf_19 (fun x4 => ?_)
      refine ct_iconst (v := 0) S dJ12_indexOf_20 kI_0 ?_
      refine ct_cI (st := []) (cg_static (av := [cz_r l0, cz_i x3, cz_r l1, cz_i x4, cz_i 0]) S (fun _ e => mt_J12_indexOf_2 e) md_J12_indexOf_2 (Or.inl q888) q889 (by decide) (Nat.le_of_ble_eq_true rfl) rfl dJ12_indexOf_21) (fun x6 h5 => ?_)
      exact ct_iret S rfl dJ12_indexOf_24
    · refine ct_iconst (v := (-1)) S dJ12_indexOf_12 kI_m1 ?_
      exact ct_iret S rfl dJ12_indexOf_13
  · refine ct_iconst (v := 0) S dJ12_indexOf_5 kI_0 ?_
    exact ct_iret S rfl dJ12_indexOf_6
theorem mt_J12_indexOf {l : Launch} {D : cz_D} {l0 : Option Nat} {l1 : Option Nat} {h : cz_H} {oh : cz_O × cz_H} (hz : fn_J12_indexOf l0 l1 h = some oh) : cz_M l D yJ12_indexOf (ws_ yJ12_indexOf cJ12_indexOf 2 ((Option.some Jvm.ClassFile.FieldType.int))) 3 [cz_r l0, cz_r l1] h oh := cz_met (plainFor_of_name (by decide)) (Nat.le_of_ble_eq_true rfl) hz (fun K hl S => wk_J12_indexOf S)
/-! java/lang/String.isLatin1()Z -/
def dkwJ8_isLatin1_0 : List UInt8 := [178, 0, 38, 153, 0, 14, 42, 180, 0, 15, 154, 0, 7, 4, 167, 0, 4, 3, 172]
abbrev dktJ8_isLatin1_0 : List UInt8 := dkwJ8_isLatin1_0 ++ []
theorem dksJ8_isLatin1_0 : cJ8_isLatin1.data.toList.drop 0 = dktJ8_isLatin1_0 := by decide +kernel
theorem dJ8_isLatin1_0 : decode cJ8_isLatin1 0 = .ok (.getstatic 38, 3) := dk_178 0 38 (dk_at dksJ8_isLatin1_0 0 rfl rfl)
theorem dJ8_isLatin1_3 : decode cJ8_isLatin1 3 = .ok (.ifCond .eq 14, 3) := dk_153 0 14 (dk_at dksJ8_isLatin1_0 3 rfl rfl)
theorem dJ8_isLatin1_6 : decode cJ8_isLatin1 6 = .ok (.aload_n 0, 1) := dk_42 (dk_at dksJ8_isLatin1_0 6 rfl rfl)
theorem dJ8_isLatin1_7 : decode cJ8_isLatin1 7 = .ok (.getfield 15, 3) := dk_180 0 15 (dk_at dksJ8_isLatin1_0 7 rfl rfl)
theorem dJ8_isLatin1_10 : decode cJ8_isLatin1 10 = .ok (.ifCond .ne 7, 3) := dk_154 0 7 (dk_at dksJ8_isLatin1_0 10 rfl rfl)
theorem dJ8_isLatin1_13 : decode cJ8_isLatin1 13 = .ok (.iconst 1, 1) := dk_4 (dk_at dksJ8_isLatin1_0 13 rfl rfl)
theorem dJ8_isLatin1_14 : decode cJ8_isLatin1 14 = .ok (.goto 4, 3) := dk_167 0 4 (dk_at dksJ8_isLatin1_0 14 rfl rfl)
theorem dJ8_isLatin1_17 : decode cJ8_isLatin1 17 = .ok (.iconst 0, 1) := dk_3 (dk_at dksJ8_isLatin1_0 17 rfl rfl)
theorem dJ8_isLatin1_18 : decode cJ8_isLatin1 18 = .ok (.ireturn, 1) := dk_172 (dk_at dksJ8_isLatin1_0 18 rfl rfl)
set_option maxHeartbeats 4000000 in
set_option maxRecDepth 100000 in
noncomputable def fn_J8_isLatin1 (l0 : Option Nat) (h : cz_H) : cz_Z := (if (1 : Int32) = 0 then some (.inl (some (cz_i 0)), h) else cz_getI h l0 [(8, 1)] (fun x1 => (if x1 = 0 then some (.inl (some (cz_i 1)), h) else some (.inl (some (cz_i 0)), h))))
set_option maxHeartbeats 4000000 in
set_option maxRecDepth 100000 in
theorem wk_J8_isLatin1 {K : cz_K} {D : cz_D} {h0 : cz_H} {oh : cz_O × cz_H} {l0 : Option Nat} {h : cz_H} (S : cz_S K D h0 cJ8_isLatin1 1 "java/lang/String" ((Option.some Jvm.ClassFile.FieldType.boolean)) "isLatin1" ([])) : cz_T K D 2 h0 oh 1 (fn_J8_isLatin1 l0 h) h 0 [(0, cz_r l0)] [] := by
  unfold fn_J8_isLatin1
  refine ct_gets (i := 0) S rfl q692 dJ8_isLatin1_0 ?_
  refine ct_if_eq (tgt := 17) S dJ8_isLatin1_3 (by decide) ?_ ?_
  · refine ct_iconst (v := 0) S dJ8_isLatin1_17 kI_0 ?_
    exact ct_zr (ty := .boolean) S rfl rfl dJ8_isLatin1_18
  · refine ct_aload_n (k := 0) S dJ8_isLatin1_6 rfl rfl ?_
    refine ct_getI S fw_J8_15 dJ8_isLatin1_7 (fun x1 => ?_)
    refine ct_if_ne (tgt := 17) S dJ8_isLatin1_10 (by decide) ?_ ?_
    · refine ct_iconst (v := 0) S dJ8_isLatin1_17 kI_0 ?_
      exact ct_zr (ty := .boolean) S rfl rfl dJ8_isLatin1_18
    · refine ct_iconst (v := 1) S dJ8_isLatin1_13 kI_1 ?_
      refine ct_goto (tgt := 18) S dJ8_isLatin1_14 (by decide) ?_
      exact ct_zr (ty := .boolean) S rfl rfl dJ8_isLatin1_18
theorem mt_J8_isLatin1 {l : Launch} {D : cz_D} {l0 : Option Nat} {h : cz_H} {oh : cz_O × cz_H} (hz : fn_J8_isLatin1 l0 h = some oh) : cz_M l D yJ8_isLatin1 (ws_ yJ8_isLatin1 cJ8_isLatin1 1 ((Option.some Jvm.ClassFile.FieldType.boolean))) 2 [cz_r l0] h oh := cz_met (plainFor_of_name (by decide)) (Nat.le_of_ble_eq_true rfl) hz (fun K hl S => wk_J8_isLatin1 S)
/-! java/lang/String.indexOf(Ljava/lang/String;)I -/
def dkwJ8_indexOf_2 : List UInt8 := [154, 0, 5, 2, 172, 42, 180, 0, 9, 43, 180, 0, 9, 184, 2, 138, 172]
abbrev dktJ8_indexOf_2 : List UInt8 := dkwJ8_indexOf_2 ++ []
def dkwJ8_indexOf_1 : List UInt8 := [43, 180, 0, 9, 184, 2, 135, 167, 0, 14, 42, 180, 0, 9, 43, 180, 0, 9, 184, 2, 137, 172, 28]
abbrev dktJ8_indexOf_1 : List UInt8 := dkwJ8_indexOf_1 ++ dktJ8_indexOf_2
def dkwJ8_indexOf_0 : List UInt8 := [42, 182, 1, 79, 61, 28, 43, 182, 1, 79, 160, 0, 36, 42, 182, 1, 236, 153, 0, 17, 42, 180, 0, 9]
abbrev dktJ8_indexOf_0 : List UInt8 := dkwJ8_indexOf_0 ++ dktJ8_indexOf_1
theorem dksJ8_indexOf_0 : cJ8_indexOf.data.toList.drop 0 = dktJ8_indexOf_0 := by decide +kernel
theorem dksJ8_indexOf_1 : cJ8_indexOf.data.toList.drop 24 = dktJ8_indexOf_1 := dk_seg dksJ8_indexOf_0 24 rfl rfl
theorem dksJ8_indexOf_2 : cJ8_indexOf.data.toList.drop 47 = dktJ8_indexOf_2 := dk_seg dksJ8_indexOf_1 23 rfl rfl
theorem dJ8_indexOf_0 : decode cJ8_indexOf 0 = .ok (.aload_n 0, 1) := dk_42 (dk_at dksJ8_indexOf_0 0 rfl rfl)
theorem dJ8_indexOf_1 : decode cJ8_indexOf 1 = .ok (.invokevirtual 335, 3) := dk_182 1 79 (dk_at dksJ8_indexOf_0 1 rfl rfl)
theorem dJ8_indexOf_4 : decode cJ8_indexOf 4 = .ok (.istore_n 2, 1) := dk_61 (dk_at dksJ8_indexOf_0 4 rfl rfl)
theorem dJ8_indexOf_5 : decode cJ8_indexOf 5 = .ok (.iload_n 2, 1) := dk_28 (dk_at dksJ8_indexOf_0 5 rfl rfl)
theorem dJ8_indexOf_6 : decode cJ8_indexOf 6 = .ok (.aload_n 1, 1) := dk_43 (dk_at dksJ8_indexOf_0 6 rfl rfl)
theorem dJ8_indexOf_7 : decode cJ8_indexOf 7 = .ok (.invokevirtual 335, 3) := dk_182 1 79 (dk_at dksJ8_indexOf_0 7 rfl rfl)
theorem dJ8_indexOf_10 : decode cJ8_indexOf 10 = .ok (.if_icmp .ne 36, 3) := dk_160 0 36 (dk_at dksJ8_indexOf_0 10 rfl rfl)
theorem dJ8_indexOf_13 : decode cJ8_indexOf 13 = .ok (.aload_n 0, 1) := dk_42 (dk_at dksJ8_indexOf_0 13 rfl rfl)
theorem dJ8_indexOf_14 : decode cJ8_indexOf 14 = .ok (.invokevirtual 492, 3) := dk_182 1 236 (dk_at dksJ8_indexOf_0 14 rfl rfl)
theorem dJ8_indexOf_17 : decode cJ8_indexOf 17 = .ok (.ifCond .eq 17, 3) := dk_153 0 17 (dk_at dksJ8_indexOf_0 17 rfl rfl)
theorem dJ8_indexOf_20 : decode cJ8_indexOf 20 = .ok (.aload_n 0, 1) := dk_42 (dk_at dksJ8_indexOf_0 20 rfl rfl)
theorem dJ8_indexOf_21 : decode cJ8_indexOf 21 = .ok (.getfield 9, 3) := dk_180 0 9 (dk_at dksJ8_indexOf_0 21 rfl rfl)
theorem dJ8_indexOf_24 : decode cJ8_indexOf 24 = .ok (.aload_n 1, 1) := dk_43 (dk_at dksJ8_indexOf_1 0 rfl rfl)
theorem dJ8_indexOf_25 : decode cJ8_indexOf 25 = .ok (.getfield 9, 3) := dk_180 0 9 (dk_at dksJ8_indexOf_1 1 rfl rfl)
theorem dJ8_indexOf_28 : decode cJ8_indexOf 28 = .ok (.invokestatic 647, 3) := dk_184 2 135 (dk_at dksJ8_indexOf_1 4 rfl rfl)
theorem dJ8_indexOf_31 : decode cJ8_indexOf 31 = .ok (.goto 14, 3) := dk_167 0 14 (dk_at dksJ8_indexOf_1 7 rfl rfl)
theorem dJ8_indexOf_34 : decode cJ8_indexOf 34 = .ok (.aload_n 0, 1) := dk_42 (dk_at dksJ8_indexOf_1 10 rfl rfl)
theorem dJ8_indexOf_35 : decode cJ8_indexOf 35 = .ok (.getfield 9, 3) := dk_180 0 9 (dk_at dksJ8_indexOf_1 11 rfl rfl)
theorem dJ8_indexOf_38 : decode cJ8_indexOf 38 = .ok (.aload_n 1, 1) := dk_43 (dk_at dksJ8_indexOf_1 14 rfl rfl)
theorem dJ8_indexOf_39 : decode cJ8_indexOf 39 = .ok (.getfield 9, 3) := dk_180 0 9 (dk_at dksJ8_indexOf_1 15 rfl rfl)
theorem dJ8_indexOf_42 : decode cJ8_indexOf 42 = .ok (.invokestatic 649, 3) := dk_184 2 137 (dk_at dksJ8_indexOf_1 18 rfl rfl)
theorem dJ8_indexOf_45 : decode cJ8_indexOf 45 = .ok (.ireturn, 1) := dk_172 (dk_at dksJ8_indexOf_1 21 rfl rfl)
theorem dJ8_indexOf_46 : decode cJ8_indexOf 46 = .ok (.iload_n 2, 1) := dk_28 (dk_at dksJ8_indexOf_1 22 rfl rfl)
theorem dJ8_indexOf_47 : decode cJ8_indexOf 47 = .ok (.ifCond .ne 5, 3) := dk_154 0 5 (dk_at dksJ8_indexOf_2 0 rfl rfl)
theorem dJ8_indexOf_50 : decode cJ8_indexOf 50 = .ok (.iconst (-1), 1) := dk_2 (dk_at dksJ8_indexOf_2 3 rfl rfl)
theorem dJ8_indexOf_51 : decode cJ8_indexOf 51 = .ok (.ireturn, 1) := dk_172 (dk_at dksJ8_indexOf_2 4 rfl rfl)
theorem dJ8_indexOf_52 : decode cJ8_indexOf 52 = .ok (.aload_n 0, 1) := dk_42 (dk_at dksJ8_indexOf_2 5 rfl rfl)
theorem dJ8_indexOf_53 : decode cJ8_indexOf 53 = .ok (.getfield 9, 3) := dk_180 0 9 (dk_at dksJ8_indexOf_2 6 rfl rfl)
theorem dJ8_indexOf_56 : decode cJ8_indexOf 56 = .ok (.aload_n 1, 1) := dk_43 (dk_at dksJ8_indexOf_2 9 rfl rfl)
theorem dJ8_indexOf_57 : decode cJ8_indexOf 57 = .ok (.getfield 9, 3) := dk_180 0 9 (dk_at dksJ8_indexOf_2 10 rfl rfl)
theorem dJ8_indexOf_60 : decode cJ8_indexOf 60 = .ok (.invokestatic 650, 3) := dk_184 2 138 (dk_at dksJ8_indexOf_2 13 rfl rfl)
theorem dJ8_indexOf_63 : decode cJ8_indexOf 63 = .ok (.ireturn, 1) := dk_172 (dk_at dksJ8_indexOf_2 16 rfl rfl)
theorem se_java_lang_String_isLatin1___Z_java_lang_String : ∀ c ∈ ([8] : List Nat), ∃ q : vw_C, cz_cl[c]? = some q ∧ Cond.selects q.1 (⟨"java/lang/String", "isLatin1", "()Z"⟩ : MethodName) (⟨"java/lang/String", "isLatin1", "()Z"⟩ : MethodName) ∈ lw_all := List.forall_mem_cons.mpr ⟨⟨_, cz_cl8, q883⟩, fun _ h => absurd h List.not_mem_nil⟩
theorem md_J8_isLatin1 : cz_md yJ8_isLatin1 1 (ws_ yJ8_isLatin1 cJ8_isLatin1 1 ((Option.some Jvm.ClassFile.FieldType.boolean))) 0 := ⟨cz_ws_code q884, q128, ⟨by decide, by decide, by decide +kernel⟩, by decide⟩
theorem md_J12_indexOf : cz_md yJ12_indexOf 2 (ws_ yJ12_indexOf cJ12_indexOf 2 ((Option.some Jvm.ClassFile.FieldType.int))) 2 := ⟨cz_ws_code q887, q133, ⟨by decide, by decide, by decide +kernel⟩, by decide⟩
set_option maxHeartbeats 4000000 in
set_option maxRecDepth 100000 in
noncomputable def fn_J8_indexOf (l0 : Option Nat) (l1 : Option Nat) (h : cz_H) : cz_Z := cz_rc h l0 [8] (cz_cI (fn_J8_coder l0 h) (fun x8 h7 => cz_rc h7 l1 [8] (cz_cI (fn_J8_coder l1 h7) (fun x16 h15 => (if x8 = x16 then cz_rc h15 l0 [8] (cz_cI (fn_J8_isLatin1 l0 h15) (fun x26 h25 => (if x26 = 0 then cz_getR h25 l0 [(8, 0)] (fun r27 => cz_getR h25 l1 [(8, 0)] (fun r28 => none)) else cz_getR h25 l0 [(8, 0)] (fun r29 => cz_getR h25 l1 [(8, 0)] (fun r30 => cz_cI (fn_J12_indexOf r29 r30 h25) (fun x32 h31 => some (.inl (some (cz_i x32)), h31))))))) else (if x8 = 0 then some (.inl (some (cz_i (-1))), h15) else cz_getR h15 l0 [(8, 0)] (fun r17 => cz_getR h15 l1 [(8, 0)] (fun r18 => none))))))))
set_option maxHeartbeats 4000000 in
set_option maxRecDepth 100000 in
theorem wk_J8_indexOf {K : cz_K} {D : cz_D} {h0 : cz_H} {oh : cz_O × cz_H} {l0 : Option Nat} {l1 : Option Nat} {h : cz_H} (S : cz_S K D h0 cJ8_indexOf 3 "java/lang/String" ((Option.some Jvm.ClassFile.FieldType.int)) "indexOf" ([])) : cz_T K D 4 h0 oh 3 (fn_J8_indexOf l0 l1 h) h 0 [(0, cz_r l0), (1, cz_r l1)] [] := by
  unfold fn_J8_indexOf
  refine ct_aload_n (k := 0) S dJ8_indexOf_0 rfl rfl ?_
  refine ct_rc (fun b1 ci2 V3 hb4 hc5 hi6 => ?_)
  refine ct_cI (st := []) (cg_virtual (av := []) S hb4 hc5 hi6 (fun _ e => mt_J8_coder e) md_J8_coder q858 q859 se_java_lang_String_coder___B_java_lang_String (by decide) (Nat.le_of_ble_eq_true rfl) rfl dJ8_indexOf_1) (fun x8 h7 => ?_)
  refine ct_istore_n (L' := [(2, cz_i x8), (0, cz_r l0), (1, cz_r l1)]) S dJ8_indexOf_4 rfl (by decide) rfl ?_
  refine ct_iload_n (k := 0) S dJ8_indexOf_5 rfl rfl ?_
  refine ct_aload_n (k := 2) S dJ8_indexOf_6 rfl rfl ?_
  refine ct_rc (fun b9 ci10 V11 hb12 hc13 hi14 => ?_)
  refine ct_cI (st := [cz_i x8]) (cg_virtual (av := []) S hb12 hc13 hi14 (fun _ e => mt_J8_coder e) md_J8_coder q858 q859 se_java_lang_String_coder___B_java_lang_String (by decide) (Nat.le_of_ble_eq_true rfl) rfl dJ8_indexOf_7) (fun x16 h15 => ?_)
  refine ct_icmp_ne (tgt := 46) S dJ8_indexOf_10 (by decide) ?_ ?_
  · refine ct_iload_n (k := 0) S dJ8_indexOf_46 rfl rfl ?_
    refine ct_if_ne (tgt := 52) S dJ8_indexOf_47 (by decide) ?_ ?_
    · refine ct_aload_n (k := 1) S dJ8_indexOf_52 rfl rfl ?_
      refine ct_getR S fw_J8_9 dJ8_indexOf_53 (fun r17 => ?_)
      refine ct_aload_n (k := 2) S dJ8_indexOf_56 rfl rfl ?_
      refine ct_getR S fw_J8_9 dJ8_indexOf_57 (fun r18 => ?_)
      exact ct_none
    · refine ct_iconst (v := (-1)) S dJ8_indexOf_50 kI_m1 ?_
      exact ct_iret S rfl dJ8_indexOf_51
  · refine ct_aload_n (k := 1) S dJ8_indexOf_13 rfl rfl ?_
    refine ct_rc (fun b19 ci20 V21 hb22 hc23 hi24 => ?_)
    refine ct_cI (st := []) (cg_virtual (av := []) S hb22 hc23 hi24 (fun _ e => mt_J8_isLatin1 e) md_J8_isLatin1 q881 q882 se_java_lang_String_isLatin1___Z_java_lang_String (by decide) (Nat.le_of_ble_eq_true rfl) rfl dJ8_indexOf_14) (fun x26 h25 => ?_)
    refine ct_if_eq (tgt := 34) S dJ8_indexOf_17 (by decide) ?_ ?_
    · refine ct_aload_n (k := 1) S dJ8_indexOf_34 rfl rfl ?_
      refine ct_getR S fw_J8_9 dJ8_indexOf_35 (fun r27 => ?_)
      refine ct_aload_n (k := 2) S dJ8_indexOf_38 rfl rfl ?_
      refine ct_getR S fw_J8_9 dJ8_indexOf_39 (fun r28 => ?_)
      exact ct_none
    · refine ct_aload_n (k := 1) S dJ8_indexOf_20 rfl rfl ?_
      refine ct_getR S fw_J8_9 dJ8_indexOf_21 (fun r29 => ?_)
      refine ct_aload_n (k := 2) S dJ8_indexOf_24 rfl rfl ?_
      refine ct_getR S fw_J8_9 dJ8_indexOf_25 (fun r30 => ?_)
      refine ct_cI (st := []) (cg_static (av := [cz_r r29, cz_r r30]) S (fun _ e => mt_J12_indexOf e) md_J12_indexOf (Or.inl q885) q886 (by decide) (Nat.le_of_ble_eq_true rfl) rfl dJ8_indexOf_28) (fun x32 h31 => ?_)
      refine ct_goto (tgt := 45) S dJ8_indexOf_31 (by decide) ?_
      exact ct_iret S rfl dJ8_indexOf_45
theorem mt_J8_indexOf {l : Launch} {D : cz_D} {l0 : Option Nat} {l1 : Option Nat} {h : cz_H} {oh : cz_O × cz_H} (hz : fn_J8_indexOf l0 l1 h = some oh) : cz_M l D yJ8_indexOf (ws_ yJ8_indexOf cJ8_indexOf 3 ((Option.some Jvm.ClassFile.FieldType.int))) 4 [cz_r l0, cz_r l1] h oh := cz_met (plainFor_of_name (by decide)) (Nat.le_of_ble_eq_true rfl) hz (fun K hl S => wk_J8_indexOf S)
/-! HeldCoats$Reader.isName()Z -/
def dkwX6_isName_2 : List UInt8 := [3, 172]
abbrev dktX6_isName_2 : List UInt8 := dkwX6_isName_2 ++ []
def dkwX6_isName_1 : List UInt8 := [180, 0, 11, 182, 0, 80, 18, 78, 182, 0, 80, 182, 0, 61, 182, 0, 83, 156, 0, 7, 4, 167, 0, 4]
abbrev dktX6_isName_1 : List UInt8 := dkwX6_isName_1 ++ dktX6_isName_2
def dkwX6_isName_0 : List UInt8 := [42, 180, 0, 38, 5, 160, 0, 42, 18, 76, 187, 0, 54, 89, 183, 0, 56, 18, 78, 182, 0, 80, 42]
abbrev dktX6_isName_0 : List UInt8 := dkwX6_isName_0 ++ dktX6_isName_1
theorem dksX6_isName_0 : cX6_isName.data.toList.drop 0 = dktX6_isName_0 := by decide +kernel
theorem dksX6_isName_1 : cX6_isName.data.toList.drop 23 = dktX6_isName_1 := dk_seg dksX6_isName_0 23 rfl rfl
theorem dksX6_isName_2 : cX6_isName.data.toList.drop 47 = dktX6_isName_2 := dk_seg dksX6_isName_1 24 rfl rfl
theorem dX6_isName_0 : decode cX6_isName 0 = .ok (.aload_n 0, 1) := dk_42 (dk_at dksX6_isName_0 0 rfl rfl)
theorem dX6_isName_1 : decode cX6_isName 1 = .ok (.getfield 38, 3) := dk_180 0 38 (dk_at dksX6_isName_0 1 rfl rfl)
theorem dX6_isName_4 : decode cX6_isName 4 = .ok (.iconst 2, 1) := dk_5 (dk_at dksX6_isName_0 4 rfl rfl)
theorem dX6_isName_5 : decode cX6_isName 5 = .ok (.if_icmp .ne 42, 3) := dk_160 0 42 (dk_at dksX6_isName_0 5 rfl rfl)
theorem dX6_isName_8 : decode cX6_isName 8 = .ok (.ldc 76, 2) := dk_18 76 (dk_at dksX6_isName_0 8 rfl rfl)
theorem dX6_isName_10 : decode cX6_isName 10 = .ok (.new 54, 3) := dk_187 0 54 (dk_at dksX6_isName_0 10 rfl rfl)
theorem dX6_isName_13 : decode cX6_isName 13 = .ok (.dup, 1) := dk_89 (dk_at dksX6_isName_0 13 rfl rfl)
theorem dX6_isName_14 : decode cX6_isName 14 = .ok (.invokespecial 56, 3) := dk_183 0 56 (dk_at dksX6_isName_0 14 rfl rfl)
theorem dX6_isName_17 : decode cX6_isName 17 = .ok (.ldc 78, 2) := dk_18 78 (dk_at dksX6_isName_0 17 rfl rfl)
theorem dX6_isName_19 : decode cX6_isName 19 = .ok (.invokevirtual 80, 3) := dk_182 0 80 (dk_at dksX6_isName_0 19 rfl rfl)
theorem dX6_isName_22 : decode cX6_isName 22 = .ok (.aload_n 0, 1) := dk_42 (dk_at dksX6_isName_0 22 rfl rfl)
theorem dX6_isName_23 : decode cX6_isName 23 = .ok (.getfield 11, 3) := dk_180 0 11 (dk_at dksX6_isName_1 0 rfl rfl)
theorem dX6_isName_26 : decode cX6_isName 26 = .ok (.invokevirtual 80, 3) := dk_182 0 80 (dk_at dksX6_isName_1 3 rfl rfl)
theorem dX6_isName_29 : decode cX6_isName 29 = .ok (.ldc 78, 2) := dk_18 78 (dk_at dksX6_isName_1 6 rfl rfl)
theorem dX6_isName_31 : decode cX6_isName 31 = .ok (.invokevirtual 80, 3) := dk_182 0 80 (dk_at dksX6_isName_1 8 rfl rfl)
theorem dX6_isName_34 : decode cX6_isName 34 = .ok (.invokevirtual 61, 3) := dk_182 0 61 (dk_at dksX6_isName_1 11 rfl rfl)
theorem dX6_isName_37 : decode cX6_isName 37 = .ok (.invokevirtual 83, 3) := dk_182 0 83 (dk_at dksX6_isName_1 14 rfl rfl)
theorem dX6_isName_40 : decode cX6_isName 40 = .ok (.ifCond .ge 7, 3) := dk_156 0 7 (dk_at dksX6_isName_1 17 rfl rfl)
theorem dX6_isName_43 : decode cX6_isName 43 = .ok (.iconst 1, 1) := dk_4 (dk_at dksX6_isName_1 20 rfl rfl)
theorem dX6_isName_44 : decode cX6_isName 44 = .ok (.goto 4, 3) := dk_167 0 4 (dk_at dksX6_isName_1 21 rfl rfl)
theorem dX6_isName_47 : decode cX6_isName 47 = .ok (.iconst 0, 1) := dk_3 (dk_at dksX6_isName_2 0 rfl rfl)
theorem dX6_isName_48 : decode cX6_isName 48 = .ok (.ireturn, 1) := dk_172 (dk_at dksX6_isName_2 1 rfl rfl)
theorem se_java_lang_StringBuilder_append__Ljava_lang_String__Ljava_lang_StringBuilder__java_lang_StringBuilder : ∀ c ∈ ([7] : List Nat), ∃ q : vw_C, cz_cl[c]? = some q ∧ Cond.selects q.1 (⟨"java/lang/StringBuilder", "append", "(Ljava/lang/String;)Ljava/lang/StringBuilder;"⟩ : MethodName) (⟨"java/lang/StringBuilder", "append", "(Ljava/lang/String;)Ljava/lang/StringBuilder;"⟩ : MethodName) ∈ lw_all := List.forall_mem_cons.mpr ⟨⟨_, cz_cl7, q833⟩, fun _ h => absurd h List.not_mem_nil⟩
theorem md_J7_append_2 : cz_md yJ7_append_2 2 (ws_ yJ7_append_2 cJ7_append_2 2 ((Option.some (Jvm.ClassFile.FieldType.object "java/lang/StringBuilder")))) 1 := ⟨cz_ws_code q834, q127, ⟨by decide, by decide, by decide +kernel⟩, by decide⟩
theorem se_java_lang_String_indexOf__Ljava_lang_String__I_java_lang_String : ∀ c ∈ ([8] : List Nat), ∃ q : vw_C, cz_cl[c]? = some q ∧ Cond.selects q.1 (⟨"java/lang/String", "indexOf", "(Ljava/lang/String;)I"⟩ : MethodName) (⟨"java/lang/String", "indexOf", "(Ljava/lang/String;)I"⟩ : MethodName) ∈ lw_all := List.forall_mem_cons.mpr ⟨⟨_, cz_cl8, q879⟩, fun _ h => absurd h List.not_mem_nil⟩
theorem md_J8_indexOf : cz_md yJ8_indexOf 3 (ws_ yJ8_indexOf cJ8_indexOf 3 ((Option.some Jvm.ClassFile.FieldType.int))) 1 := ⟨cz_ws_code q880, q128, ⟨by decide, by decide, by decide +kernel⟩, by decide⟩
set_option maxHeartbeats 4000000 in
set_option maxRecDepth 100000 in
noncomputable def fn_X6_isName (l0 : Option Nat) (h : cz_H) : cz_Z := cz_getI h l0 [(6, 4), (16, 4), (18, 4)] (fun x1 => (if x1 = 2 then cz_newo h 7 4 (fun r2 h3 => cz_nn' r2 (cz_cV (fn_J7_init r2 h3) (fun h6 => cz_rc h6 r2 [7] (cz_cR (fn_J7_append_2 r2 (h6.1.2.2.2 3) h6) (fun r14 h13 => cz_getR h13 l0 [(6, 8), (16, 8), (18, 8)] (fun r15 => cz_rc h13 r14 [7] (cz_cR (fn_J7_append_2 r14 r15 h13) (fun r23 h22 => cz_rc h22 r23 [7] (cz_cR (fn_J7_append_2 r23 (h22.1.2.2.2 3) h22) (fun r31 h30 => cz_rc h30 r31 [7] (cz_cR (fn_J7_toString r31 h30) (fun r39 h38 => cz_rc h38 (h.1.2.2.2 2) [8] (cz_cI (fn_J8_indexOf (h.1.2.2.2 2) r39 h38) (fun x47 h46 => (if 0 ≤ x47 then some (.inl (some (cz_i 0)), h46) else some (.inl (some (cz_i 1)), h46)))))))))))))))) else some (.inl (some (cz_i 0)), h)))
set_option maxHeartbeats 4000000 in
set_option maxRecDepth 100000 in
theorem wk_X6_isName {K : cz_K} {D : cz_D} {h0 : cz_H} {oh : cz_O × cz_H} {l0 : Option Nat} {h : cz_H} (S : cz_S K D h0 cX6_isName 1 "HeldCoats$Reader" ((Option.some Jvm.ClassFile.FieldType.boolean)) "isName" ([])) : cz_T K D 8 h0 oh 1 (fn_X6_isName l0 h) h 0 [(0, cz_r l0)] [] := by
  unfold fn_X6_isName
  refine ct_aload_n (k := 0) S dX6_isName_0 rfl rfl ?_
  refine ct_getI S fw_X6_38 dX6_isName_1 (fun x1 => ?_)
  refine ct_iconst (v := 2) S dX6_isName_4 kI_2 ?_
  refine ct_icmp_ne (tgt := 47) S dX6_isName_5 (by decide) ?_ ?_
  · refine ct_iconst (v := 0) S dX6_isName_47 kI_0 ?_
    exact ct_zr (ty := .boolean) S rfl rfl dX6_isName_48
  · refine ct_ldcS (i := 2) S rfl dX6_isName_8 ?_
    refine ct_newo S (by decide) cz_cl7 q532 dX6_isName_10 (fun r2 h3 => ?_)
    refine ct_dup S dX6_isName_13 rfl ?_
    refine ct_nn (fun b4 hb5 => ?_)
    refine ct_cV (st := [cz_r r2, cz_r (h.1.2.2.2 2)]) (cg_init (av := []) S hb5 (fun _ e => mt_J7_init e) q536 (Or.inl q534) rfl q535 q127 nh_java_lang_StringBuilder__init____V (by decide) (by decide) (Nat.le_of_ble_eq_true rfl) rfl dX6_isName_14) (fun h6 => ?_)
    refine ct_ldcS (i := 3) S rfl dX6_isName_17 ?_
    refine ct_rc (fun b7 ci8 V9 hb10 hc11 hi12 => ?_)
    refine ct_cR (st := [cz_r (h.1.2.2.2 2)]) (cg_virtual (av := [cz_r (h6.1.2.2.2 3)]) S hb10 hc11 hi12 (fun _ e => mt_J7_append_2 e) md_J7_append_2 q831 q832 se_java_lang_StringBuilder_append__Ljava_lang_String__Ljava_lang_StringBuilder__java_lang_StringBuilder (by decide) (Nat.le_of_ble_eq_true rfl) rfl dX6_isName_19) (fun r14 h13 => ?_)
    refine ct_aload_n (k := 0) S dX6_isName_22 rfl rfl ?_
    refine ct_getR S fw_X6_11 dX6_isName_23 (fun r15 => ?_)
    refine ct_rc (fun b16 ci17 V18 hb19 hc20 hi21 => ?_)
    refine ct_cR (st := [cz_r (h.1.2.2.2 2)]) (cg_virtual (av := [cz_r r15]) S hb19 hc20 hi21 (fun _ e => mt_J7_append_2 e) md_J7_append_2 q831 q832 se_java_lang_StringBuilder_append__Ljava_lang_String__Ljava_lang_StringBuilder__java_lang_StringBuilder (by decide) (Nat.le_of_ble_eq_true rfl) rfl dX6_isName_26) (fun r23 h22 => ?_)
    refine ct_ldcS (i := 3) S rfl dX6_isName_29 ?_
    refine ct_rc (fun b24 ci25 V26 hb27 hc28 hi29 => ?_)
    refine ct_cR (st := [cz_r (h.1.2.2.2 2)]) (cg_virtual (av := [cz_r (h22.1.2.2.2 3)]) S hb27 hc28 hi29 (fun _ e => mt_J7_append_2 e) md_J7_append_2 q831 q832 se_java_lang_StringBuilder_append__Ljava_lang_String__Ljava_lang_StringBuilder__java_lang_StringBuilder (by decide) (Nat.le_of_ble_eq_true rfl) rfl dX6_isName_31) (fun r31 h30 => ?_)
    refine ct_rc (fun b32 ci33 V34 hb35 hc36 hi37 => ?_)
    refine ct_cR (st := [cz_r (h.1.2.2.2 2)]) (cg_virtual (av := []) S hb35 hc36 hi37 (fun _ e => mt_J7_toString e) md_J7_toString q656 q657 se_java_lang_StringBuilder_toString___Ljava_lang_String__java_lang_StringBuilder (by decide) (Nat.le_of_ble_eq_true rfl) rfl dX6_isName_34) (fun r39 h38 => ?_)
    refine ct_rc (fun b40 ci41 V42 hb43 hc44 hi45 => ?_)
    refine ct_cI (st := []) (cg_virtual (av := [cz_r r39]) S hb43 hc44 hi45 (fun _ e => mt_J8_indexOf e) md_J8_indexOf q877 q878 se_java_lang_String_indexOf__Ljava_lang_String__I_java_lang_String (by decide) (Nat.le_of_ble_eq_true rfl) rfl dX6_isName_37) (fun x47 h46 => ?_)
    refine ct_if_ge (tgt := 47) S dX6_isName_40 (by decide) ?_ ?_
    · refine ct_iconst (v := 0) S dX6_isName_47 kI_0 ?_
      exact ct_zr (ty := .boolean) S rfl rfl dX6_isName_48
    · refine ct_iconst (v := 1) S dX6_isName_43 kI_1 ?_
      refine ct_goto (tgt := 48) S dX6_isName_44 (by decide) ?_
      exact ct_zr (ty := .boolean) S rfl rfl dX6_isName_48
theorem mt_X6_isName {l : Launch} {D : cz_D} {l0 : Option Nat} {h : cz_H} {oh : cz_O × cz_H} (hz : fn_X6_isName l0 h = some oh) : cz_M l D yX6_isName (ws_ yX6_isName cX6_isName 1 ((Option.some Jvm.ClassFile.FieldType.boolean))) 8 [cz_r l0] h oh := cz_met (plainFor_of_name (by decide)) (Nat.le_of_ble_eq_true rfl) hz (fun K hl S => wk_X6_isName S)
/-! HeldCoats$Reader.one(Ljava/util/ArrayList;)I -/
def dkwX6_one_1 : List UInt8 := [167, 0, 4, 3, 6, 182, 0, 87, 42, 182, 0, 99, 28, 172]
abbrev dktX6_one_1 : List UInt8 := dkwX6_one_1 ++ []
def dkwX6_one_0 : List UInt8 := [42, 42, 182, 0, 116, 4, 182, 0, 87, 42, 43, 182, 0, 120, 61, 42, 28, 2, 159, 0, 7, 4]
abbrev dktX6_one_0 : List UInt8 := dkwX6_one_0 ++ dktX6_one_1
theorem dksX6_one_0 : cX6_one.data.toList.drop 0 = dktX6_one_0 := by decide +kernel
theorem dksX6_one_1 : cX6_one.data.toList.drop 22 = dktX6_one_1 := dk_seg dksX6_one_0 22 rfl rfl
theorem dX6_one_0 : decode cX6_one 0 = .ok (.aload_n 0, 1) := dk_42 (dk_at dksX6_one_0 0 rfl rfl)
theorem dX6_one_1 : decode cX6_one 1 = .ok (.aload_n 0, 1) := dk_42 (dk_at dksX6_one_0 1 rfl rfl)
theorem dX6_one_2 : decode cX6_one 2 = .ok (.invokevirtual 116, 3) := dk_182 0 116 (dk_at dksX6_one_0 2 rfl rfl)
theorem dX6_one_5 : decode cX6_one 5 = .ok (.iconst 1, 1) := dk_4 (dk_at dksX6_one_0 5 rfl rfl)
theorem dX6_one_6 : decode cX6_one 6 = .ok (.invokevirtual 87, 3) := dk_182 0 87 (dk_at dksX6_one_0 6 rfl rfl)
theorem dX6_one_9 : decode cX6_one 9 = .ok (.aload_n 0, 1) := dk_42 (dk_at dksX6_one_0 9 rfl rfl)
theorem dX6_one_10 : decode cX6_one 10 = .ok (.aload_n 1, 1) := dk_43 (dk_at dksX6_one_0 10 rfl rfl)
theorem dX6_one_11 : decode cX6_one 11 = .ok (.invokevirtual 120, 3) := dk_182 0 120 (dk_at dksX6_one_0 11 rfl rfl)
theorem dX6_one_14 : decode cX6_one 14 = .ok (.istore_n 2, 1) := dk_61 (dk_at dksX6_one_0 14 rfl rfl)
theorem dX6_one_15 : decode cX6_one 15 = .ok (.aload_n 0, 1) := dk_42 (dk_at dksX6_one_0 15 rfl rfl)
theorem dX6_one_16 : decode cX6_one 16 = .ok (.iload_n 2, 1) := dk_28 (dk_at dksX6_one_0 16 rfl rfl)
theorem dX6_one_17 : decode cX6_one 17 = .ok (.iconst (-1), 1) := dk_2 (dk_at dksX6_one_0 17 rfl rfl)
theorem dX6_one_18 : decode cX6_one 18 = .ok (.if_icmp .eq 7, 3) := dk_159 0 7 (dk_at dksX6_one_0 18 rfl rfl)
theorem dX6_one_21 : decode cX6_one 21 = .ok (.iconst 1, 1) := dk_4 (dk_at dksX6_one_0 21 rfl rfl)
theorem dX6_one_22 : decode cX6_one 22 = .ok (.goto 4, 3) := dk_167 0 4 (dk_at dksX6_one_1 0 rfl rfl)
theorem dX6_one_25 : decode cX6_one 25 = .ok (.iconst 0, 1) := dk_3 (dk_at dksX6_one_1 3 rfl rfl)
theorem dX6_one_26 : decode cX6_one 26 = .ok (.iconst 3, 1) := dk_6 (dk_at dksX6_one_1 4 rfl rfl)
theorem dX6_one_27 : decode cX6_one 27 = .ok (.invokevirtual 87, 3) := dk_182 0 87 (dk_at dksX6_one_1 5 rfl rfl)
theorem dX6_one_30 : decode cX6_one 30 = .ok (.aload_n 0, 1) := dk_42 (dk_at dksX6_one_1 8 rfl rfl)
theorem dX6_one_31 : decode cX6_one 31 = .ok (.invokevirtual 99, 3) := dk_182 0 99 (dk_at dksX6_one_1 9 rfl rfl)
theorem dX6_one_34 : decode cX6_one 34 = .ok (.iload_n 2, 1) := dk_28 (dk_at dksX6_one_1 12 rfl rfl)
theorem dX6_one_35 : decode cX6_one 35 = .ok (.ireturn, 1) := dk_172 (dk_at dksX6_one_1 13 rfl rfl)
theorem se_HeldCoats_Reader_isName___Z_HeldCoats_Reader : ∀ c ∈ ([6, 16, 18] : List Nat), ∃ q : vw_C, cz_cl[c]? = some q ∧ Cond.selects q.1 (⟨"HeldCoats$Reader", "isName", "()Z"⟩ : MethodName) (⟨"HeldCoats$Reader", "isName", "()Z"⟩ : MethodName) ∈ lw_all := List.forall_mem_cons.mpr ⟨⟨_, cz_cl6, q2527⟩, List.forall_mem_cons.mpr ⟨⟨_, cz_cl16, q2526⟩, List.forall_mem_cons.mpr ⟨⟨_, cz_cl18, q2528⟩, fun _ h => absurd h List.not_mem_nil⟩⟩⟩
theorem md_X6_isName : cz_md yX6_isName 1 (ws_ yX6_isName cX6_isName 1 ((Option.some Jvm.ClassFile.FieldType.boolean))) 0 := ⟨cz_ws_code q828, q124, ⟨by decide, by decide, by decide +kernel⟩, by decide⟩
theorem se_HeldCoats_Reader_need__ZI_V_HeldCoats_Reader : ∀ c ∈ ([6, 16, 18] : List Nat), ∃ q : vw_C, cz_cl[c]? = some q ∧ Cond.selects q.1 (⟨"HeldCoats$Reader", "need", "(ZI)V"⟩ : MethodName) (⟨"HeldCoats$Reader", "need", "(ZI)V"⟩ : MethodName) ∈ lw_all := List.forall_mem_cons.mpr ⟨⟨_, cz_cl6, q2519⟩, List.forall_mem_cons.mpr ⟨⟨_, cz_cl16, q2518⟩, List.forall_mem_cons.mpr ⟨⟨_, cz_cl18, q2520⟩, fun _ h => absurd h List.not_mem_nil⟩⟩⟩
theorem md_X6_need : cz_md yX6_need 3 (ws_ yX6_need cX6_need 3 ((Option.none : Option Jvm.ClassFile.FieldType))) 2 := ⟨cz_ws_code q750, q124, ⟨by decide, by decide, by decide +kernel⟩, by decide⟩
theorem se_HeldCoats_Reader_find__Ljava_util_ArrayList__I_HeldCoats_Reader : ∀ c ∈ ([6, 16, 18] : List Nat), ∃ q : vw_C, cz_cl[c]? = some q ∧ Cond.selects q.1 (⟨"HeldCoats$Reader", "find", "(Ljava/util/ArrayList;)I"⟩ : MethodName) (⟨"HeldCoats$Reader", "find", "(Ljava/util/ArrayList;)I"⟩ : MethodName) ∈ lw_all := List.forall_mem_cons.mpr ⟨⟨_, cz_cl6, q2531⟩, List.forall_mem_cons.mpr ⟨⟨_, cz_cl16, q2530⟩, List.forall_mem_cons.mpr ⟨⟨_, cz_cl18, q2532⟩, fun _ h => absurd h List.not_mem_nil⟩⟩⟩
theorem md_X6_find : cz_md yX6_find 3 (ws_ yX6_find cX6_find 3 ((Option.some Jvm.ClassFile.FieldType.int))) 1 := ⟨cz_ws_code q908, q124, ⟨by decide, by decide, by decide +kernel⟩, by decide⟩
theorem se_HeldCoats_Reader_go___V_HeldCoats_Reader : ∀ c ∈ ([6, 16, 18] : List Nat), ∃ q : vw_C, cz_cl[c]? = some q ∧ Cond.selects q.1 (⟨"HeldCoats$Reader", "go", "()V"⟩ : MethodName) (⟨"HeldCoats$Reader", "go", "()V"⟩ : MethodName) ∈ lw_all := List.forall_mem_cons.mpr ⟨⟨_, cz_cl6, q2523⟩, List.forall_mem_cons.mpr ⟨⟨_, cz_cl16, q2522⟩, List.forall_mem_cons.mpr ⟨⟨_, cz_cl18, q2524⟩, fun _ h => absurd h List.not_mem_nil⟩⟩⟩
theorem md_X6_go : cz_md yX6_go 5 (ws_ yX6_go cX6_go 5 ((Option.none : Option Jvm.ClassFile.FieldType))) 0 := ⟨cz_ws_code q521, q124, ⟨by decide, by decide, by decide +kernel⟩, by decide⟩
set_option maxHeartbeats 4000000 in
set_option maxRecDepth 100000 in
noncomputable def fn_X6_one (l0 : Option Nat) (l1 : Option Nat) (h : cz_H) : cz_Z := cz_rc h l0 [6, 16, 18] (cz_cI (fn_X6_isName l0 h) (fun x8 h7 => cz_rc h7 l0 [6, 16, 18] (cz_xV (fn_X6_need l0 x8 1 h7) (fun q16 h17 => cz_thr q16 h17) (fun h15 => cz_rc h15 l0 [6, 16, 18] (cz_cI (fn_X6_find l0 l1 h15) (fun x25 h24 => (if x25 = (-1) then cz_rc h24 l0 [6, 16, 18] (cz_xV (fn_X6_need l0 0 3 h24) (fun q33 h34 => cz_thr q33 h34) (fun h32 => cz_rc h32 l0 [6, 16, 18] (cz_cV (fn_X6_go l0 h32) (fun h41 => some (.inl (some (cz_i x25)), h41))))) else cz_rc h24 l0 [6, 16, 18] (cz_xV (fn_X6_need l0 1 3 h24) (fun q49 h50 => cz_thr q49 h50) (fun h48 => cz_rc h48 l0 [6, 16, 18] (cz_cV (fn_X6_go l0 h48) (fun h57 => some (.inl (some (cz_i x25)), h57))))))))))))
set_option maxHeartbeats 4000000 in
set_option maxRecDepth 100000 in
theorem wk_X6_one {K : cz_K} {D : cz_D} {h0 : cz_H} {oh : cz_O × cz_H} {l0 : Option Nat} {l1 : Option Nat} {h : cz_H} (S : cz_S K D h0 cX6_one 3 "HeldCoats$Reader" ((Option.some Jvm.ClassFile.FieldType.int)) "one" ([])) : cz_T K D 9 h0 oh 3 (fn_X6_one l0 l1 h) h 0 [(0, cz_r l0), (1, cz_r l1)] [] := by
  unfold fn_X6_one
  refine ct_aload_n (k := 0) S dX6_one_0 rfl rfl ?_
  refine ct_aload_n (k := 0) S dX6_one_1 rfl rfl ?_
  refine ct_rc (fun b1 ci2 V3 hb4 hc5 hi6 => ?_)
  refine ct_cI (st := [cz_r l0]) (cg_virtual (av := []) S hb4 hc5 hi6 (fun _ e => mt_X6_isName e) md_X6_isName q1019 q827 se_HeldCoats_Reader_isName___Z_HeldCoats_Reader (by decide) (Nat.le_of_ble_eq_true rfl) rfl dX6_one_2) (fun x8 h7 => ?_)
  refine ct_iconst (v := 1) S dX6_one_5 kI_1 ?_
  refine ct_rc (fun b9 ci10 V11 hb12 hc13 hi14 => ?_)
  refine ct_xV (st := []) (cg_virtual (av := [cz_i x8, cz_i 1]) S hb12 hc13 hi14 (fun _ e => mt_X6_need e) md_X6_need q927 q749 se_HeldCoats_Reader_need__ZI_V_HeldCoats_Reader (by decide) (Nat.le_of_ble_eq_true rfl) rfl dX6_one_6) (fun q16 h17 => ?_) (fun h15 => ?_)
  · exact ct_out S (fun x hx => by cases hx)
  · refine ct_aload_n (k := 0) S dX6_one_9 rfl rfl ?_
    refine ct_aload_n (k := 1) S dX6_one_10 rfl rfl ?_
    refine ct_rc (fun b18 ci19 V20 hb21 hc22 hi23 => ?_)
    refine ct_cI (st := []) (cg_virtual (av := [cz_r l1]) S hb21 hc22 hi23 (fun _ e => mt_X6_find e) md_X6_find q1020 q907 se_HeldCoats_Reader_find__Ljava_util_ArrayList__I_HeldCoats_Reader (by decide) (Nat.le_of_ble_eq_true rfl) rfl dX6_one_11) (fun x25 h24 => ?_)
    refine ct_istore_n (L' := [(2, cz_i x25), (0, cz_r l0), (1, cz_r l1)]) S dX6_one_14 rfl (by decide) rfl ?_
    refine ct_aload_n (k := 1) S dX6_one_15 rfl rfl ?_
    refine ct_iload_n (k := 0) S dX6_one_16 rfl rfl ?_
    refine ct_iconst (v := (-1)) S dX6_one_17 kI_m1 ?_
    refine ct_icmp_eq (tgt := 25) S dX6_one_18 (by decide) ?_ ?_
    · refine ct_iconst (v := 0) S dX6_one_25 kI_0 ?_
      refine ct_iconst (v := 3) S dX6_one_26 kI_3 ?_
      refine ct_rc (fun b26 ci27 V28 hb29 hc30 hi31 => ?_)
      refine ct_xV (st := []) (cg_virtual (av := [cz_i 0, cz_i 3]) S hb29 hc30 hi31 (fun _ e => mt_X6_need e) md_X6_need q927 q749 se_HeldCoats_Reader_need__ZI_V_HeldCoats_Reader (by decide) (Nat.le_of_ble_eq_true rfl) rfl dX6_one_27) (fun q33 h34 => ?_) (fun h32 => ?_)
      · exact ct_out S (fun x hx => by cases hx)
      · refine ct_aload_n (k := 1) S dX6_one_30 rfl rfl ?_
        refine ct_rc (fun b35 ci36 V37 hb38 hc39 hi40 => ?_)
        refine ct_cV (st := []) (cg_virtual (av := []) S hb38 hc39 hi40 (fun _ e => mt_X6_go e) md_X6_go q931 q520 se_HeldCoats_Reader_go___V_HeldCoats_Reader (by decide) (Nat.le_of_ble_eq_true rfl) rfl dX6_one_31) (fun h41 => ?_)
        refine ct_iload_n (k := 0) S dX6_one_34 rfl rfl ?_
        exact ct_iret S rfl dX6_one_35
    · refine ct_iconst (v := 1) S dX6_one_21 kI_1 ?_
      refine ct_goto (tgt := 26) S dX6_one_22 (by decide) ?_
      refine ct_iconst (v := 3) S dX6_one_26 kI_3 ?_
      refine ct_rc (fun b42 ci43 V44 hb45 hc46 hi47 => ?_)
      refine ct_xV (st := []) (cg_virtual (av := [cz_i 1, cz_i 3]) S hb45 hc46 hi47 (fun _ e => mt_X6_need e) md_X6_need q927 q749 se_HeldCoats_Reader_need__ZI_V_HeldCoats_Reader (by decide) (Nat.le_of_ble_eq_true rfl) rfl dX6_one_27) (fun q49 h50 => ?_) (fun h48 => ?_)
      · exact ct_out S (fun x hx => by cases hx)
      · refine ct_aload_n (k := 1) S dX6_one_30 rfl rfl ?_
        refine ct_rc (fun b51 ci52 V53 hb54 hc55 hi56 => ?_)
        refine ct_cV (st := []) (cg_virtual (av := []) S hb54 hc55 hi56 (fun _ e => mt_X6_go e) md_X6_go q931 q520 se_HeldCoats_Reader_go___V_HeldCoats_Reader (by decide) (Nat.le_of_ble_eq_true rfl) rfl dX6_one_31) (fun h57 => ?_)
        refine ct_iload_n (k := 0) S dX6_one_34 rfl rfl ?_
        exact ct_iret S rfl dX6_one_35
theorem mt_X6_one {l : Launch} {D : cz_D} {l0 : Option Nat} {l1 : Option Nat} {h : cz_H} {oh : cz_O × cz_H} (hz : fn_X6_one l0 l1 h = some oh) : cz_M l D yX6_one (ws_ yX6_one cX6_one 3 ((Option.some Jvm.ClassFile.FieldType.int))) 9 [cz_r l0, cz_r l1] h oh := cz_met (plainFor_of_name (by decide)) (Nat.le_of_ble_eq_true rfl) hz (fun K hl S => wk_X6_one S)
/-! HeldCoats$BookReader.of(I)LHeldCoats$Act; -/
def dkwX19_of_4 : List UInt8 := [183, 0, 111, 167, 0, 11, 187, 0, 112, 89, 27, 183, 0, 114, 176]
abbrev dktX19_of_4 : List UInt8 := dkwX19_of_4 ++ []
def dkwX19_of_3 : List UInt8 := [167, 0, 37, 29, 153, 0, 25, 187, 0, 109, 89, 27, 42, 42, 180, 0, 20, 180, 0, 56, 182, 0, 91]
abbrev dktX19_of_3 : List UInt8 := dkwX19_of_3 ++ dktX19_of_4
def dkwX19_of_2 : List UInt8 := [153, 0, 25, 187, 0, 103, 89, 27, 42, 42, 180, 0, 20, 180, 0, 105, 182, 0, 91, 183, 0, 108]
abbrev dktX19_of_2 : List UInt8 := dkwX19_of_2 ++ dktX19_of_3
def dkwX19_of_1 : List UInt8 := [18, 101, 182, 0, 44, 153, 0, 7, 4, 167, 0, 4, 3, 4, 182, 0, 52, 42, 182, 0, 24, 28]
abbrev dktX19_of_1 : List UInt8 := dkwX19_of_1 ++ dktX19_of_2
def dkwX19_of_0 : List UInt8 := [42, 18, 97, 182, 0, 44, 61, 42, 18, 99, 182, 0, 44, 62, 42, 28, 154, 0, 16, 29, 154, 0, 12, 42]
abbrev dktX19_of_0 : List UInt8 := dkwX19_of_0 ++ dktX19_of_1
theorem dksX19_of_0 : cX19_of.data.toList.drop 0 = dktX19_of_0 := by decide +kernel
theorem dksX19_of_1 : cX19_of.data.toList.drop 24 = dktX19_of_1 := dk_seg dksX19_of_0 24 rfl rfl
theorem dksX19_of_2 : cX19_of.data.toList.drop 46 = dktX19_of_2 := dk_seg dksX19_of_1 22 rfl rfl
theorem dksX19_of_3 : cX19_of.data.toList.drop 68 = dktX19_of_3 := dk_seg dksX19_of_2 22 rfl rfl
theorem dksX19_of_4 : cX19_of.data.toList.drop 91 = dktX19_of_4 := dk_seg dksX19_of_3 23 rfl rfl
theorem dX19_of_0 : decode cX19_of 0 = .ok (.aload_n 0, 1) := dk_42 (dk_at dksX19_of_0 0 rfl rfl)
theorem dX19_of_1 : decode cX19_of 1 = .ok (.ldc 97, 2) := dk_18 97 (dk_at dksX19_of_0 1 rfl rfl)
theorem dX19_of_3 : decode cX19_of 3 = .ok (.invokevirtual 44, 3) := dk_182 0 44 (dk_at dksX19_of_0 3 rfl rfl)
theorem dX19_of_6 : decode cX19_of 6 = .ok (.istore_n 2, 1) := dk_61 (dk_at dksX19_of_0 6 rfl rfl)
theorem dX19_of_7 : decode cX19_of 7 = .ok (.aload_n 0, 1) := dk_42 (dk_at dksX19_of_0 7 rfl rfl)
theorem dX19_of_8 : decode cX19_of 8 = .ok (.ldc 99, 2) := dk_18 99 (dk_at dksX19_of_0 8 rfl rfl)
theorem dX19_of_10 : decode cX19_of 10 = .ok (.invokevirtual 44, 3) := dk_182 0 44 (dk_at dksX19_of_0 10 rfl rfl)
theorem dX19_of_13 : decode cX19_of 13 = .ok (.istore_n 3, 1) := dk_62 (dk_at dksX19_of_0 13 rfl rfl)
theorem dX19_of_14 : decode cX19_of 14 = .ok (.aload_n 0, 1) := dk_42 (dk_at dksX19_of_0 14 rfl rfl)
theorem dX19_of_15 : decode cX19_of 15 = .ok (.iload_n 2, 1) := dk_28 (dk_at dksX19_of_0 15 rfl rfl)
theorem dX19_of_16 : decode cX19_of 16 = .ok (.ifCond .ne 16, 3) := dk_154 0 16 (dk_at dksX19_of_0 16 rfl rfl)
theorem dX19_of_19 : decode cX19_of 19 = .ok (.iload_n 3, 1) := dk_29 (dk_at dksX19_of_0 19 rfl rfl)
theorem dX19_of_20 : decode cX19_of 20 = .ok (.ifCond .ne 12, 3) := dk_154 0 12 (dk_at dksX19_of_0 20 rfl rfl)
theorem dX19_of_23 : decode cX19_of 23 = .ok (.aload_n 0, 1) := dk_42 (dk_at dksX19_of_0 23 rfl rfl)
theorem dX19_of_24 : decode cX19_of 24 = .ok (.ldc 101, 2) := dk_18 101 (dk_at dksX19_of_1 0 rfl rfl)
theorem dX19_of_26 : decode cX19_of 26 = .ok (.invokevirtual 44, 3) := dk_182 0 44 (dk_at dksX19_of_1 2 rfl rfl)
theorem dX19_of_29 : decode cX19_of 29 = .ok (.ifCond .eq 7, 3) := dk_153 0 7 (dk_at dksX19_of_1 5 rfl rfl)
theorem dX19_of_32 : decode cX19_of 32 = .ok (.iconst 1, 1) := dk_4 (dk_at dksX19_of_1 8 rfl rfl)
theorem dX19_of_33 : decode cX19_of 33 = .ok (.goto 4, 3) := dk_167 0 4 (dk_at dksX19_of_1 9 rfl rfl)
theorem dX19_of_36 : decode cX19_of 36 = .ok (.iconst 0, 1) := dk_3 (dk_at dksX19_of_1 12 rfl rfl)
theorem dX19_of_37 : decode cX19_of 37 = .ok (.iconst 1, 1) := dk_4 (dk_at dksX19_of_1 13 rfl rfl)
theorem dX19_of_38 : decode cX19_of 38 = .ok (.invokevirtual 52, 3) := dk_182 0 52 (dk_at dksX19_of_1 14 rfl rfl)
theorem dX19_of_41 : decode cX19_of 41 = .ok (.aload_n 0, 1) := dk_42 (dk_at dksX19_of_1 17 rfl rfl)
theorem dX19_of_42 : decode cX19_of 42 = .ok (.invokevirtual 24, 3) := dk_182 0 24 (dk_at dksX19_of_1 18 rfl rfl)
theorem dX19_of_45 : decode cX19_of 45 = .ok (.iload_n 2, 1) := dk_28 (dk_at dksX19_of_1 21 rfl rfl)
theorem dX19_of_46 : decode cX19_of 46 = .ok (.ifCond .eq 25, 3) := dk_153 0 25 (dk_at dksX19_of_2 0 rfl rfl)
theorem dX19_of_49 : decode cX19_of 49 = .ok (.new 103, 3) := dk_187 0 103 (dk_at dksX19_of_2 3 rfl rfl)
theorem dX19_of_52 : decode cX19_of 52 = .ok (.dup, 1) := dk_89 (dk_at dksX19_of_2 6 rfl rfl)
theorem dX19_of_53 : decode cX19_of 53 = .ok (.iload_n 1, 1) := dk_27 (dk_at dksX19_of_2 7 rfl rfl)
theorem dX19_of_54 : decode cX19_of 54 = .ok (.aload_n 0, 1) := dk_42 (dk_at dksX19_of_2 8 rfl rfl)
theorem dX19_of_55 : decode cX19_of 55 = .ok (.aload_n 0, 1) := dk_42 (dk_at dksX19_of_2 9 rfl rfl)
theorem dX19_of_56 : decode cX19_of 56 = .ok (.getfield 20, 3) := dk_180 0 20 (dk_at dksX19_of_2 10 rfl rfl)
theorem dX19_of_59 : decode cX19_of 59 = .ok (.getfield 105, 3) := dk_180 0 105 (dk_at dksX19_of_2 13 rfl rfl)
theorem dX19_of_62 : decode cX19_of 62 = .ok (.invokevirtual 91, 3) := dk_182 0 91 (dk_at dksX19_of_2 16 rfl rfl)
theorem dX19_of_65 : decode cX19_of 65 = .ok (.invokespecial 108, 3) := dk_183 0 108 (dk_at dksX19_of_2 19 rfl rfl)
theorem dX19_of_68 : decode cX19_of 68 = .ok (.goto 37, 3) := dk_167 0 37 (dk_at dksX19_of_3 0 rfl rfl)
theorem dX19_of_71 : decode cX19_of 71 = .ok (.iload_n 3, 1) := dk_29 (dk_at dksX19_of_3 3 rfl rfl)
theorem dX19_of_72 : decode cX19_of 72 = .ok (.ifCond .eq 25, 3) := dk_153 0 25 (dk_at dksX19_of_3 4 rfl rfl)
theorem dX19_of_75 : decode cX19_of 75 = .ok (.new 109, 3) := dk_187 0 109 (dk_at dksX19_of_3 7 rfl rfl)
theorem dX19_of_78 : decode cX19_of 78 = .ok (.dup, 1) := dk_89 (dk_at dksX19_of_3 10 rfl rfl)
theorem dX19_of_79 : decode cX19_of 79 = .ok (.iload_n 1, 1) := dk_27 (dk_at dksX19_of_3 11 rfl rfl)
theorem dX19_of_80 : decode cX19_of 80 = .ok (.aload_n 0, 1) := dk_42 (dk_at dksX19_of_3 12 rfl rfl)
theorem dX19_of_81 : decode cX19_of 81 = .ok (.aload_n 0, 1) := dk_42 (dk_at dksX19_of_3 13 rfl rfl)
theorem dX19_of_82 : decode cX19_of 82 = .ok (.getfield 20, 3) := dk_180 0 20 (dk_at dksX19_of_3 14 rfl rfl)
theorem dX19_of_85 : decode cX19_of 85 = .ok (.getfield 56, 3) := dk_180 0 56 (dk_at dksX19_of_3 17 rfl rfl)
theorem dX19_of_88 : decode cX19_of 88 = .ok (.invokevirtual 91, 3) := dk_182 0 91 (dk_at dksX19_of_3 20 rfl rfl)
theorem dX19_of_91 : decode cX19_of 91 = .ok (.invokespecial 111, 3) := dk_183 0 111 (dk_at dksX19_of_4 0 rfl rfl)
theorem dX19_of_94 : decode cX19_of 94 = .ok (.goto 11, 3) := dk_167 0 11 (dk_at dksX19_of_4 3 rfl rfl)
theorem dX19_of_97 : decode cX19_of 97 = .ok (.new 112, 3) := dk_187 0 112 (dk_at dksX19_of_4 6 rfl rfl)
theorem dX19_of_100 : decode cX19_of 100 = .ok (.dup, 1) := dk_89 (dk_at dksX19_of_4 9 rfl rfl)
theorem dX19_of_101 : decode cX19_of 101 = .ok (.iload_n 1, 1) := dk_27 (dk_at dksX19_of_4 10 rfl rfl)
theorem dX19_of_102 : decode cX19_of 102 = .ok (.invokespecial 114, 3) := dk_183 0 114 (dk_at dksX19_of_4 11 rfl rfl)
theorem dX19_of_105 : decode cX19_of 105 = .ok (.areturn, 1) := dk_176 (dk_at dksX19_of_4 14 rfl rfl)
theorem se_HeldCoats_BookReader_is__Ljava_lang_String__Z_HeldCoats_Reader : ∀ c ∈ ([16] : List Nat), ∃ q : vw_C, cz_cl[c]? = some q ∧ Cond.selects q.1 (⟨"HeldCoats$BookReader", "is", "(Ljava/lang/String;)Z"⟩ : MethodName) (⟨"HeldCoats$Reader", "is", "(Ljava/lang/String;)Z"⟩ : MethodName) ∈ lw_all := List.forall_mem_cons.mpr ⟨⟨_, cz_cl16, q1562⟩, fun _ h => absurd h List.not_mem_nil⟩
theorem nh_HeldCoats_BookReader_is__Ljava_lang_String__Z : cz_nh ⟨"HeldCoats$BookReader", "is", "(Ljava/lang/String;)Z"⟩ 1 := ⟨by decide, by decide, by decide +kernel⟩
theorem fw_X19_105 : cz_FW "HeldCoats$BookReader" 105 [(1, 6)] "Ljava/util/ArrayList;" := ⟨"HeldCoats$Capital", "seats", Or.inr ⟨_, q221⟩, List.forall_mem_cons.mpr ⟨⟨RX2, TX2, 11, rfl, by decide, rfl, rfl, Or.inl rfl⟩, fun _ h => absurd h List.not_mem_nil⟩, by decide⟩
theorem fw_X19_56 : cz_FW "HeldCoats$BookReader" 56 [(1, 7)] "Ljava/util/ArrayList;" := ⟨"HeldCoats$Capital", "men", Or.inr ⟨_, q225⟩, List.forall_mem_cons.mpr ⟨⟨RX2, TX2, 11, rfl, by decide, rfl, rfl, Or.inl rfl⟩, fun _ h => absurd h List.not_mem_nil⟩, by decide⟩
theorem se_HeldCoats_BookReader_need__ZI_V_HeldCoats_Reader : ∀ c ∈ ([16] : List Nat), ∃ q : vw_C, cz_cl[c]? = some q ∧ Cond.selects q.1 (⟨"HeldCoats$BookReader", "need", "(ZI)V"⟩ : MethodName) (⟨"HeldCoats$Reader", "need", "(ZI)V"⟩ : MethodName) ∈ lw_all := List.forall_mem_cons.mpr ⟨⟨_, cz_cl16, q1568⟩, fun _ h => absurd h List.not_mem_nil⟩
theorem nh_HeldCoats_BookReader_need__ZI_V : cz_nh ⟨"HeldCoats$BookReader", "need", "(ZI)V"⟩ 2 := ⟨by decide, by decide, by decide +kernel⟩
theorem se_HeldCoats_BookReader_go___V_HeldCoats_Reader : ∀ c ∈ ([16] : List Nat), ∃ q : vw_C, cz_cl[c]? = some q ∧ Cond.selects q.1 (⟨"HeldCoats$BookReader", "go", "()V"⟩ : MethodName) (⟨"HeldCoats$Reader", "go", "()V"⟩ : MethodName) ∈ lw_all := List.forall_mem_cons.mpr ⟨⟨_, cz_cl16, q1554⟩, fun _ h => absurd h List.not_mem_nil⟩
theorem nh_HeldCoats_BookReader_go___V : cz_nh ⟨"HeldCoats$BookReader", "go", "()V"⟩ 0 := ⟨by decide, by decide, by decide +kernel⟩
theorem nh_HeldCoats_Stored__init___I_V : cz_nh ⟨"HeldCoats$Stored", "<init>", "(I)V"⟩ 1 := ⟨by decide, by decide, by decide +kernel⟩
theorem se_HeldCoats_BookReader_one__Ljava_util_ArrayList__I_HeldCoats_Reader : ∀ c ∈ ([16] : List Nat), ∃ q : vw_C, cz_cl[c]? = some q ∧ Cond.selects q.1 (⟨"HeldCoats$BookReader", "one", "(Ljava/util/ArrayList;)I"⟩ : MethodName) (⟨"HeldCoats$Reader", "one", "(Ljava/util/ArrayList;)I"⟩ : MethodName) ∈ lw_all := List.forall_mem_cons.mpr ⟨⟨_, cz_cl16, q1594⟩, fun _ h => absurd h List.not_mem_nil⟩
theorem nh_HeldCoats_BookReader_one__Ljava_util_ArrayList__I : cz_nh ⟨"HeldCoats$BookReader", "one", "(Ljava/util/ArrayList;)I"⟩ 1 := ⟨by decide, by decide, by decide +kernel⟩
theorem nh_HeldCoats_Lent__init___II_V : cz_nh ⟨"HeldCoats$Lent", "<init>", "(II)V"⟩ 2 := ⟨by decide, by decide, by decide +kernel⟩
theorem nh_HeldCoats_Lies__init___II_V : cz_nh ⟨"HeldCoats$Lies", "<init>", "(II)V"⟩ 2 := ⟨by decide, by decide, by decide +kernel⟩
set_option maxHeartbeats 4000000 in
set_option maxRecDepth 100000 in
noncomputable def fn_X19_of (l0 : Option Nat) (l1 : Int32) (h : cz_H) : cz_Z := cz_rc h l0 [16] (cz_cI (fn_X6_is l0 (h.1.2.2.2 13) h) (fun x8 h7 => cz_rc h7 l0 [16] (cz_cI (fn_X6_is l0 (h7.1.2.2.2 14) h7) (fun x16 h15 => cz_jn (fun (v17 : Int32) (h18 : cz_H) => cz_rc h18 l0 [16] (cz_xV (fn_X6_need l0 v17 1 h18) (fun q26 h27 => cz_thr q26 h27) (fun h25 => cz_rc h25 l0 [16] (cz_cV (fn_X6_go l0 h25) (fun h34 => (if x8 = 0 then (if x16 = 0 then cz_newo h34 15 1 (fun r35 h36 => cz_nn' r35 (cz_cV (fn_X17_init r35 l1 h36) (fun h39 => some (.inl (some (cz_r r35)), h39)))) else cz_newo h34 14 2 (fun r40 h41 => cz_getR h41 l0 [(16, 9)] (fun r42 => cz_getR h41 r42 [(1, 7)] (fun r43 => cz_rc h41 l0 [16] (cz_xI (fn_X6_one l0 r43 h41) (fun q51 h52 => cz_thr q51 h52) (fun x53 h50 => cz_nn' r40 (cz_cV (fn_X16_init r40 l1 x53 h50) (fun h56 => some (.inl (some (cz_r r40)), h56))))))))) else cz_newo h34 12 2 (fun r57 h58 => cz_getR h58 l0 [(16, 9)] (fun r59 => cz_getR h58 r59 [(1, 6)] (fun r60 => cz_rc h58 l0 [16] (cz_xI (fn_X6_one l0 r60 h58) (fun q68 h69 => cz_thr q68 h69) (fun x70 h67 => cz_nn' r57 (cz_cV (fn_X15_init r57 l1 x70 h67) (fun h73 => some (.inl (some (cz_r r57)), h73)))))))))))))) (fun j74 => cz_jn (fun (h75 : cz_H) => j74 1 h75) (fun j76 => (if x8 = 0 then (if x16 = 0 then cz_rc h15 l0 [16] (cz_cI (fn_X6_is l0 (h15.1.2.2.2 15) h15) (fun x84 h83 => (if x84 = 0 then j74 0 h83 else j76 h83))) else j76 h15) else j76 h15)))))))
set_option maxHeartbeats 4000000 in
set_option maxRecDepth 100000 in
theorem wk_X19_of {K : cz_K} {D : cz_D} {h0 : cz_H} {oh : cz_O × cz_H} {l0 : Option Nat} {l1 : Int32} {h : cz_H} (S : cz_S K D h0 cX19_of 4 "HeldCoats$BookReader" ((Option.some (Jvm.ClassFile.FieldType.object "HeldCoats$Act"))) "of" ([])) : cz_T K D 10 h0 oh 4 (fn_X19_of l0 l1 h) h 0 [(0, cz_r l0), (1, cz_i l1)] [] := by
  unfold fn_X19_of
  refine ct_aload_n (k := 0) S dX19_of_0 rfl rfl ?_
  refine ct_ldcS (i := 13) S rfl dX19_of_1 ?_
  refine ct_rc (fun b1 ci2 V3 hb4 hc5 hi6 => ?_)
  refine ct_cI (st := []) (cg_up (owner := "HeldCoats$Reader") (av := [cz_r (h.1.2.2.2 13)]) S hb4 hc5 hi6 (fun _ e => mt_X6_is e) q727 q1560 q1561 (Or.inl q724) ⟨by decide, by decide⟩ q726 q124 nh_HeldCoats_BookReader_is__Ljava_lang_String__Z se_HeldCoats_BookReader_is__Ljava_lang_String__Z_HeldCoats_Reader (by decide) (by decide) (Nat.le_of_ble_eq_true rfl) rfl dX19_of_3) (fun x8 h7 => ?_)
  refine ct_istore_n (L' := [(2, cz_i x8), (0, cz_r l0), (1, cz_i l1)]) S dX19_of_6 rfl (by decide) rfl ?_
  refine ct_aload_n (k := 1) S dX19_of_7 rfl rfl ?_
  refine ct_ldcS (i := 14) S rfl dX19_of_8 ?_
  refine ct_rc (fun b9 ci10 V11 hb12 hc13 hi14 => ?_)
  refine ct_cI (st := []) (cg_up (owner := "HeldCoats$Reader") (av := [cz_r (h7.1.2.2.2 14)]) S hb12 hc13 hi14 (fun _ e => mt_X6_is e) q727 q1560 q1561 (Or.inl q724) ⟨by decide, by decide⟩ q726 q124 nh_HeldCoats_BookReader_is__Ljava_lang_String__Z se_HeldCoats_BookReader_is__Ljava_lang_String__Z_HeldCoats_Reader (by decide) (by decide) (Nat.le_of_ble_eq_true rfl) rfl dX19_of_10) (fun x16 h15 => ?_)
  refine ct_istore_n (L' := [(3, cz_i x16), (2, cz_i x8), (0, cz_r l0), (1, cz_i l1)]) S dX19_of_13 rfl (by decide) rfl ?_
  refine ct_aload_n (k := 2) S dX19_of_14 rfl rfl ?_
  refine ct_iload_n (k := 1) S dX19_of_15 rfl rfl ?_
  refine ct_jnP (fun j74 => ∀ (v17 : Int32) (h18 : cz_H), cz_T K D 10 h0 oh 4 (j74 v17 h18) h18 37 [(0, cz_r l0), (1, cz_i l1), (2, cz_i x8), (3, cz_i x16)] [cz_i v17, cz_r l0]) (fun v17 h18 => ?_) (fun j74 Hj74 => ?_)
  · refine ct_iconst (v := 1) S dX19_of_37 kI_1 ?_
    refine ct_rc (fun b19 ci20 V21 hb22 hc23 hi24 => ?_)
    refine ct_xV (st := []) (cg_up (owner := "HeldCoats$Reader") (av := [cz_i v17, cz_i 1]) S hb22 hc23 hi24 (fun _ e => mt_X6_need e) q750 q1566 q1567 (Or.inl q747) ⟨by decide, by decide⟩ q749 q124 nh_HeldCoats_BookReader_need__ZI_V se_HeldCoats_BookReader_need__ZI_V_HeldCoats_Reader (by decide) (by decide) (Nat.le_of_ble_eq_true rfl) rfl dX19_of_38) (fun q26 h27 => ?_) (fun h25 => ?_)
    · exact ct_out S (fun x hx => by cases hx)
    · refine ct_aload_n (k := 0) S dX19_of_41 rfl rfl ?_
      refine ct_rc (fun b28 ci29 V30 hb31 hc32 hi33 => ?_)
      refine ct_cV (st := []) (cg_up (owner := "HeldCoats$Reader") (av := []) S hb31 hc32 hi33 (fun _ e => mt_X6_go e) q521 q1552 q1553 (Or.inl q518) ⟨by decide, by decide⟩ q520 q124 nh_HeldCoats_BookReader_go___V se_HeldCoats_BookReader_go___V_HeldCoats_Reader (by decide) (by decide) (Nat.le_of_ble_eq_true rfl) rfl dX19_of_42) (fun h34 => ?_)
      refine ct_iload_n (k := 2) S dX19_of_45 rfl rfl ?_
      refine ct_if_eq (tgt := 71) S dX19_of_46 (by decide) ?_ ?_
      · refine ct_iload_n (k := 3) S dX19_of_71 rfl rfl ?_
        refine ct_if_eq (tgt := 97) S dX19_of_72 (by decide) ?_ ?_
        · refine ct_newo S (by decide) cz_cl15 q1607 dX19_of_97 (fun r35 h36 => ?_)
          refine ct_dup S dX19_of_100 rfl ?_
          refine ct_iload_n (k := 1) S dX19_of_101 rfl rfl ?_
          refine ct_nn (fun b37 hb38 => ?_)
          refine ct_cV (st := [cz_r r35]) (cg_init (av := [cz_i l1]) S hb38 (fun _ e => mt_X17_init e) q1347 (Or.inl q1608) rfl q1346 q147 nh_HeldCoats_Stored__init___I_V (by decide) (by decide) (Nat.le_of_ble_eq_true rfl) rfl dX19_of_102) (fun h39 => ?_)
          exact ct_aret S rfl (Or.inl ⟨_, rfl⟩) dX19_of_105
        · refine ct_newo S (by decide) cz_cl14 q1605 dX19_of_75 (fun r40 h41 => ?_)
          refine ct_dup S dX19_of_78 rfl ?_
          refine ct_iload_n (k := 1) S dX19_of_79 rfl rfl ?_
          refine ct_aload_n (k := 0) S dX19_of_80 rfl rfl ?_
          refine ct_aload_n (k := 0) S dX19_of_81 rfl rfl ?_
          refine ct_getR S fw_X19_20 dX19_of_82 (fun r42 => ?_)
          refine ct_getR S fw_X19_56 dX19_of_85 (fun r43 => ?_)
          refine ct_rc (fun b44 ci45 V46 hb47 hc48 hi49 => ?_)
          refine ct_xI (st := [cz_i l1, cz_r r40, cz_r r40]) (cg_up (owner := "HeldCoats$Reader") (av := [cz_r r43]) S hb47 hc48 hi49 (fun _ e => mt_X6_one e) q1018 q1592 q1593 (Or.inl q1015) ⟨by decide, by decide⟩ q1017 q124 nh_HeldCoats_BookReader_one__Ljava_util_ArrayList__I se_HeldCoats_BookReader_one__Ljava_util_ArrayList__I_HeldCoats_Reader (by decide) (by decide) (Nat.le_of_ble_eq_true rfl) rfl dX19_of_88) (fun q51 h52 => ?_) (fun x53 h50 => ?_)
          · exact ct_out S (fun x hx => by cases hx)
          · refine ct_nn (fun b54 hb55 => ?_)
            refine ct_cV (st := [cz_r r40]) (cg_init (av := [cz_i l1, cz_i x53]) S hb55 (fun _ e => mt_X16_init e) q1334 (Or.inl q1606) rfl q1333 q146 nh_HeldCoats_Lent__init___II_V (by decide) (by decide) (Nat.le_of_ble_eq_true rfl) rfl dX19_of_91) (fun h56 => ?_)
            refine ct_goto (tgt := 105) S dX19_of_94 (by decide) ?_
            exact ct_aret S rfl (Or.inl ⟨_, rfl⟩) dX19_of_105
      · refine ct_newo S (by decide) cz_cl12 q1603 dX19_of_49 (fun r57 h58 => ?_)
        refine ct_dup S dX19_of_52 rfl ?_
        refine ct_iload_n (k := 1) S dX19_of_53 rfl rfl ?_
        refine ct_aload_n (k := 0) S dX19_of_54 rfl rfl ?_
        refine ct_aload_n (k := 0) S dX19_of_55 rfl rfl ?_
        refine ct_getR S fw_X19_20 dX19_of_56 (fun r59 => ?_)
        refine ct_getR S fw_X19_105 dX19_of_59 (fun r60 => ?_)
        refine ct_rc (fun b61 ci62 V63 hb64 hc65 hi66 => ?_)
        refine ct_xI (st := [cz_i l1, cz_r r57, cz_r r57]) (cg_up (owner := "HeldCoats$Reader") (av := [cz_r r60]) S hb64 hc65 hi66 (fun _ e => mt_X6_one e) q1018 q1592 q1593 (Or.inl q1015) ⟨by decide, by decide⟩ q1017 q124 nh_HeldCoats_BookReader_one__Ljava_util_ArrayList__I se_HeldCoats_BookReader_one__Ljava_util_ArrayList__I_HeldCoats_Reader (by decide) (by decide) (Nat.le_of_ble_eq_true rfl) rfl dX19_of_62) (fun q68 h69 => ?_) (fun x70 h67 => ?_)
        · exact ct_out S (fun x hx => by cases hx)
        · refine ct_nn (fun b71 hb72 => ?_)
          refine ct_cV (st := [cz_r r57]) (cg_init (av := [cz_i l1, cz_i x70]) S hb72 (fun _ e => mt_X15_init e) q1154 (Or.inl q1604) rfl q1153 q145 nh_HeldCoats_Lies__init___II_V (by decide) (by decide) (Nat.le_of_ble_eq_true rfl) rfl dX19_of_65) (fun h73 => ?_)
          refine ct_goto (tgt := 105) S dX19_of_68 (by decide) ?_
          exact ct_aret S rfl (Or.inl ⟨_, rfl⟩) dX19_of_105
  · refine ct_jnP (fun j76 => ∀ (h75 : cz_H), cz_T K D 10 h0 oh 4 (j76 h75) h75 32 [(0, cz_r l0), (1, cz_i l1), (2, cz_i x8), (3, cz_i x16)] [cz_r l0]) (fun h75 => ?_) (fun j76 Hj76 => ?_)
    · refine ct_iconst (v := 1) S dX19_of_32 kI_1 ?_
      refine ct_goto (tgt := 37) S dX19_of_33 (by decide) ?_
      exact Hj74 1 h75
    · refine ct_if_ne (tgt := 32) S dX19_of_16 (by decide) ?_ ?_
      · exact ct_sub [2, 3, 1, 0] rfl (Hj76 h15)
      · refine ct_iload_n (k := 0) S dX19_of_19 rfl rfl ?_
        refine ct_if_ne (tgt := 32) S dX19_of_20 (by decide) ?_ ?_
        · exact ct_sub [2, 3, 1, 0] rfl (Hj76 h15)
        · refine ct_aload_n (k := 2) S dX19_of_23 rfl rfl ?_
          refine ct_ldcS (i := 15) S rfl dX19_of_24 ?_
          refine ct_rc (fun b77 ci78 V79 hb80 hc81 hi82 => ?_)
          refine ct_cI (st := [cz_r l0]) (cg_up (owner := "HeldCoats$Reader") (av := [cz_r (h15.1.2.2.2 15)]) S hb80 hc81 hi82 (fun _ e => mt_X6_is e) q727 q1560 q1561 (Or.inl q724) ⟨by decide, by decide⟩ q726 q124 nh_HeldCoats_BookReader_is__Ljava_lang_String__Z se_HeldCoats_BookReader_is__Ljava_lang_String__Z_HeldCoats_Reader (by decide) (by decide) (Nat.le_of_ble_eq_true rfl) rfl dX19_of_26) (fun x84 h83 => ?_)
          refine ct_if_eq (tgt := 36) S dX19_of_29 (by decide) ?_ ?_
          · refine ct_iconst (v := 0) S dX19_of_36 kI_0 ?_
            exact ct_sub [2, 3, 1, 0] rfl (Hj74 0 h83)
          · exact ct_sub [2, 3, 1, 0] rfl (Hj76 h83)
theorem mt_X19_of {l : Launch} {D : cz_D} {l0 : Option Nat} {l1 : Int32} {h : cz_H} {oh : cz_O × cz_H} (hz : fn_X19_of l0 l1 h = some oh) : cz_M l D yX19_of (ws_ yX19_of cX19_of 4 ((Option.some (Jvm.ClassFile.FieldType.object "HeldCoats$Act")))) 10 [cz_r l0, cz_i l1] h oh := cz_met (plainFor_of_name (by decide)) (Nat.le_of_ble_eq_true rfl) hz (fun K hl S => wk_X19_of S)
/-! HeldCoats$Wears.<init>(II)V -/
def dkwX18_init_0 : List UInt8 := [42, 27, 28, 183, 0, 1, 177]
abbrev dktX18_init_0 : List UInt8 := dkwX18_init_0 ++ []
theorem dksX18_init_0 : cX18_init.data.toList.drop 0 = dktX18_init_0 := by decide +kernel
theorem dX18_init_0 : decode cX18_init 0 = .ok (.aload_n 0, 1) := dk_42 (dk_at dksX18_init_0 0 rfl rfl)
theorem dX18_init_1 : decode cX18_init 1 = .ok (.iload_n 1, 1) := dk_27 (dk_at dksX18_init_0 1 rfl rfl)
theorem dX18_init_2 : decode cX18_init 2 = .ok (.iload_n 2, 1) := dk_28 (dk_at dksX18_init_0 2 rfl rfl)
theorem dX18_init_3 : decode cX18_init 3 = .ok (.invokespecial 1, 3) := dk_183 0 1 (dk_at dksX18_init_0 3 rfl rfl)
theorem dX18_init_6 : decode cX18_init 6 = .ok (.return_, 1) := dk_177 (dk_at dksX18_init_0 6 rfl rfl)
set_option maxHeartbeats 4000000 in
set_option maxRecDepth 100000 in
noncomputable def fn_X18_init (l0 : Option Nat) (l1 : Int32) (l2 : Int32) (h : cz_H) : cz_Z := cz_nn' l0 (cz_cV (fn_X14_init l0 l1 l2 h) (fun h3 => some (.inl none, h3)))
set_option maxHeartbeats 4000000 in
set_option maxRecDepth 100000 in
theorem wk_X18_init {K : cz_K} {D : cz_D} {h0 : cz_H} {oh : cz_O × cz_H} {l0 : Option Nat} {l1 : Int32} {l2 : Int32} {h : cz_H} (S : cz_S K D h0 cX18_init 3 "HeldCoats$Wears" ((Option.none : Option Jvm.ClassFile.FieldType)) "<init>" ([])) : cz_T K D 6 h0 oh 3 (fn_X18_init l0 l1 l2 h) h 0 [(0, cz_r l0), (1, cz_i l1), (2, cz_i l2)] [] := by
  unfold fn_X18_init
  refine ct_aload_n (k := 0) S dX18_init_0 rfl rfl ?_
  refine ct_iload_n (k := 1) S dX18_init_1 rfl rfl ?_
  refine ct_iload_n (k := 2) S dX18_init_2 rfl rfl ?_
  refine ct_nn (fun b1 hb2 => ?_)
  refine ct_cV (st := []) (cg_init (av := [cz_i l1, cz_i l2]) S hb2 (fun _ e => mt_X14_init e) q1157 (Or.inl q1322) rfl q1156 q144 nh_HeldCoats_With__init___II_V (by decide) (by decide) (Nat.le_of_ble_eq_true rfl) rfl dX18_init_3) (fun h3 => ?_)
  exact ct_vret S rfl dX18_init_6
theorem mt_X18_init {l : Launch} {D : cz_D} {l0 : Option Nat} {l1 : Int32} {l2 : Int32} {h : cz_H} {oh : cz_O × cz_H} (hz : fn_X18_init l0 l1 l2 h = some oh) : cz_M l D yX18_init (ws_ yX18_init cX18_init 3 ((Option.none : Option Jvm.ClassFile.FieldType))) 6 [cz_r l0, cz_i l1, cz_i l2] h oh := cz_met (plainFor_of_name (by decide)) (Nat.le_of_ble_eq_true rfl) hz (fun K hl S => wk_X18_init S)
/-! HeldCoats$BookReader.wears(I)LHeldCoats$Act; -/
def dkwX19_wears_1 : List UInt8 := [180, 0, 65, 182, 0, 91, 27, 183, 0, 94, 176]
abbrev dktX19_wears_1 : List UInt8 := dkwX19_wears_1 ++ []
def dkwX19_wears_0 : List UInt8 := [42, 42, 18, 88, 182, 0, 44, 4, 182, 0, 52, 42, 182, 0, 24, 187, 0, 89, 89, 42, 42, 180, 0, 20]
abbrev dktX19_wears_0 : List UInt8 := dkwX19_wears_0 ++ dktX19_wears_1
theorem dksX19_wears_0 : cX19_wears.data.toList.drop 0 = dktX19_wears_0 := by decide +kernel
theorem dksX19_wears_1 : cX19_wears.data.toList.drop 24 = dktX19_wears_1 := dk_seg dksX19_wears_0 24 rfl rfl
theorem dX19_wears_0 : decode cX19_wears 0 = .ok (.aload_n 0, 1) := dk_42 (dk_at dksX19_wears_0 0 rfl rfl)
theorem dX19_wears_1 : decode cX19_wears 1 = .ok (.aload_n 0, 1) := dk_42 (dk_at dksX19_wears_0 1 rfl rfl)
theorem dX19_wears_2 : decode cX19_wears 2 = .ok (.ldc 88, 2) := dk_18 88 (dk_at dksX19_wears_0 2 rfl rfl)
theorem dX19_wears_4 : decode cX19_wears 4 = .ok (.invokevirtual 44, 3) := dk_182 0 44 (dk_at dksX19_wears_0 4 rfl rfl)
theorem dX19_wears_7 : decode cX19_wears 7 = .ok (.iconst 1, 1) := dk_4 (dk_at dksX19_wears_0 7 rfl rfl)
theorem dX19_wears_8 : decode cX19_wears 8 = .ok (.invokevirtual 52, 3) := dk_182 0 52 (dk_at dksX19_wears_0 8 rfl rfl)
theorem dX19_wears_11 : decode cX19_wears 11 = .ok (.aload_n 0, 1) := dk_42 (dk_at dksX19_wears_0 11 rfl rfl)
theorem dX19_wears_12 : decode cX19_wears 12 = .ok (.invokevirtual 24, 3) := dk_182 0 24 (dk_at dksX19_wears_0 12 rfl rfl)
theorem dX19_wears_15 : decode cX19_wears 15 = .ok (.new 89, 3) := dk_187 0 89 (dk_at dksX19_wears_0 15 rfl rfl)
theorem dX19_wears_18 : decode cX19_wears 18 = .ok (.dup, 1) := dk_89 (dk_at dksX19_wears_0 18 rfl rfl)
theorem dX19_wears_19 : decode cX19_wears 19 = .ok (.aload_n 0, 1) := dk_42 (dk_at dksX19_wears_0 19 rfl rfl)
theorem dX19_wears_20 : decode cX19_wears 20 = .ok (.aload_n 0, 1) := dk_42 (dk_at dksX19_wears_0 20 rfl rfl)
theorem dX19_wears_21 : decode cX19_wears 21 = .ok (.getfield 20, 3) := dk_180 0 20 (dk_at dksX19_wears_0 21 rfl rfl)
theorem dX19_wears_24 : decode cX19_wears 24 = .ok (.getfield 65, 3) := dk_180 0 65 (dk_at dksX19_wears_1 0 rfl rfl)
theorem dX19_wears_27 : decode cX19_wears 27 = .ok (.invokevirtual 91, 3) := dk_182 0 91 (dk_at dksX19_wears_1 3 rfl rfl)
theorem dX19_wears_30 : decode cX19_wears 30 = .ok (.iload_n 1, 1) := dk_27 (dk_at dksX19_wears_1 6 rfl rfl)
theorem dX19_wears_31 : decode cX19_wears 31 = .ok (.invokespecial 94, 3) := dk_183 0 94 (dk_at dksX19_wears_1 7 rfl rfl)
theorem dX19_wears_34 : decode cX19_wears 34 = .ok (.areturn, 1) := dk_176 (dk_at dksX19_wears_1 10 rfl rfl)
theorem fw_X19_65 : cz_FW "HeldCoats$BookReader" 65 [(1, 8)] "Ljava/util/ArrayList;" := ⟨"HeldCoats$Capital", "coats", Or.inr ⟨_, q232⟩, List.forall_mem_cons.mpr ⟨⟨RX2, TX2, 11, rfl, by decide, rfl, rfl, Or.inl rfl⟩, fun _ h => absurd h List.not_mem_nil⟩, by decide⟩
theorem nh_HeldCoats_Wears__init___II_V : cz_nh ⟨"HeldCoats$Wears", "<init>", "(II)V"⟩ 2 := ⟨by decide, by decide, by decide +kernel⟩
set_option maxHeartbeats 4000000 in
set_option maxRecDepth 100000 in
noncomputable def fn_X19_wears (l0 : Option Nat) (l1 : Int32) (h : cz_H) : cz_Z := cz_rc h l0 [16] (cz_cI (fn_X6_is l0 (h.1.2.2.2 12) h) (fun x8 h7 => cz_rc h7 l0 [16] (cz_xV (fn_X6_need l0 x8 1 h7) (fun q16 h17 => cz_thr q16 h17) (fun h15 => cz_rc h15 l0 [16] (cz_cV (fn_X6_go l0 h15) (fun h24 => cz_newo h24 13 2 (fun r25 h26 => cz_getR h26 l0 [(16, 9)] (fun r27 => cz_getR h26 r27 [(1, 8)] (fun r28 => cz_rc h26 l0 [16] (cz_xI (fn_X6_one l0 r28 h26) (fun q36 h37 => cz_thr q36 h37) (fun x38 h35 => cz_nn' r25 (cz_cV (fn_X18_init r25 x38 l1 h35) (fun h41 => some (.inl (some (cz_r r25)), h41))))))))))))))
set_option maxHeartbeats 4000000 in
set_option maxRecDepth 100000 in
theorem wk_X19_wears {K : cz_K} {D : cz_D} {h0 : cz_H} {oh : cz_O × cz_H} {l0 : Option Nat} {l1 : Int32} {h : cz_H} (S : cz_S K D h0 cX19_wears 2 "HeldCoats$BookReader" ((Option.some (Jvm.ClassFile.FieldType.object "HeldCoats$Act"))) "wears" ([])) : cz_T K D 10 h0 oh 2 (fn_X19_wears l0 l1 h) h 0 [(0, cz_r l0), (1, cz_i l1)] [] := by
  unfold fn_X19_wears
  refine ct_aload_n (k := 0) S dX19_wears_0 rfl rfl ?_
  refine ct_aload_n (k := 0) S dX19_wears_1 rfl rfl ?_
  refine ct_ldcS (i := 12) S rfl dX19_wears_2 ?_
  refine ct_rc (fun b1 ci2 V3 hb4 hc5 hi6 => ?_)
  refine ct_cI (st := [cz_r l0]) (cg_up (owner := "HeldCoats$Reader") (av := [cz_r (h.1.2.2.2 12)]) S hb4 hc5 hi6 (fun _ e => mt_X6_is e) q727 q1560 q1561 (Or.inl q724) ⟨by decide, by decide⟩ q726 q124 nh_HeldCoats_BookReader_is__Ljava_lang_String__Z se_HeldCoats_BookReader_is__Ljava_lang_String__Z_HeldCoats_Reader (by decide) (by decide) (Nat.le_of_ble_eq_true rfl) rfl dX19_wears_4) (fun x8 h7 => ?_)
  refine ct_iconst (v := 1) S dX19_wears_7 kI_1 ?_
  refine ct_rc (fun b9 ci10 V11 hb12 hc13 hi14 => ?_)
  refine ct_xV (st := []) (cg_up (owner := "HeldCoats$Reader") (av := [cz_i x8, cz_i 1]) S hb12 hc13 hi14 (fun _ e => mt_X6_need e) q750 q1566 q1567 (Or.inl q747) ⟨by decide, by decide⟩ q749 q124 nh_HeldCoats_BookReader_need__ZI_V se_HeldCoats_BookReader_need__ZI_V_HeldCoats_Reader (by decide) (by decide) (Nat.le_of_ble_eq_true rfl) rfl dX19_wears_8) (fun q16 h17 => ?_) (fun h15 => ?_)
  · exact ct_out S (fun x hx => by cases hx)
  · refine ct_aload_n (k := 0) S dX19_wears_11 rfl rfl ?_
    refine ct_rc (fun b18 ci19 V20 hb21 hc22 hi23 => ?_)
    refine ct_cV (st := []) (cg_up (owner := "HeldCoats$Reader") (av := []) S hb21 hc22 hi23 (fun _ e => mt_X6_go e) q521 q1552 q1553 (Or.inl q518) ⟨by decide, by decide⟩ q520 q124 nh_HeldCoats_BookReader_go___V se_HeldCoats_BookReader_go___V_HeldCoats_Reader (by decide) (by decide) (Nat.le_of_ble_eq_true rfl) rfl dX19_wears_12) (fun h24 => ?_)
    refine ct_newo S (by decide) cz_cl13 q1591 dX19_wears_15 (fun r25 h26 => ?_)
    refine ct_dup S dX19_wears_18 rfl ?_
    refine ct_aload_n (k := 0) S dX19_wears_19 rfl rfl ?_
    refine ct_aload_n (k := 0) S dX19_wears_20 rfl rfl ?_
    refine ct_getR S fw_X19_20 dX19_wears_21 (fun r27 => ?_)
    refine ct_getR S fw_X19_65 dX19_wears_24 (fun r28 => ?_)
    refine ct_rc (fun b29 ci30 V31 hb32 hc33 hi34 => ?_)
    refine ct_xI (st := [cz_r r25, cz_r r25]) (cg_up (owner := "HeldCoats$Reader") (av := [cz_r r28]) S hb32 hc33 hi34 (fun _ e => mt_X6_one e) q1018 q1592 q1593 (Or.inl q1015) ⟨by decide, by decide⟩ q1017 q124 nh_HeldCoats_BookReader_one__Ljava_util_ArrayList__I se_HeldCoats_BookReader_one__Ljava_util_ArrayList__I_HeldCoats_Reader (by decide) (by decide) (Nat.le_of_ble_eq_true rfl) rfl dX19_wears_27) (fun q36 h37 => ?_) (fun x38 h35 => ?_)
    · exact ct_out S (fun x hx => by cases hx)
    · refine ct_iload_n (k := 1) S dX19_wears_30 rfl rfl ?_
      refine ct_nn (fun b39 hb40 => ?_)
      refine ct_cV (st := [cz_r r25]) (cg_init (av := [cz_i x38, cz_i l1]) S hb40 (fun _ e => mt_X18_init e) q1321 (Or.inl q1595) rfl q1320 q148 nh_HeldCoats_Wears__init___II_V (by decide) (by decide) (Nat.le_of_ble_eq_true rfl) rfl dX19_wears_31) (fun h41 => ?_)
      exact ct_aret S rfl (Or.inl ⟨_, rfl⟩) dX19_wears_34
theorem mt_X19_wears {l : Launch} {D : cz_D} {l0 : Option Nat} {l1 : Int32} {h : cz_H} {oh : cz_O × cz_H} (hz : fn_X19_wears l0 l1 h = some oh) : cz_M l D yX19_wears (ws_ yX19_wears cX19_wears 2 ((Option.some (Jvm.ClassFile.FieldType.object "HeldCoats$Act")))) 10 [cz_r l0, cz_i l1] h oh := cz_met (plainFor_of_name (by decide)) (Nat.le_of_ble_eq_true rfl) hz (fun K hl S => wk_X19_wears S)
/-! HeldCoats$Days.<init>(I)V -/
def dkwX20_init_0 : List UInt8 := [42, 183, 0, 3, 42, 27, 181, 0, 9, 177]
abbrev dktX20_init_0 : List UInt8 := dkwX20_init_0 ++ []
theorem dksX20_init_0 : cX20_init.data.toList.drop 0 = dktX20_init_0 := by decide +kernel
theorem dX20_init_0 : decode cX20_init 0 = .ok (.aload_n 0, 1) := dk_42 (dk_at dksX20_init_0 0 rfl rfl)
theorem dX20_init_1 : decode cX20_init 1 = .ok (.invokespecial 3, 3) := dk_183 0 3 (dk_at dksX20_init_0 1 rfl rfl)
theorem dX20_init_4 : decode cX20_init 4 = .ok (.aload_n 0, 1) := dk_42 (dk_at dksX20_init_0 4 rfl rfl)
theorem dX20_init_5 : decode cX20_init 5 = .ok (.iload_n 1, 1) := dk_27 (dk_at dksX20_init_0 5 rfl rfl)
theorem dX20_init_6 : decode cX20_init 6 = .ok (.putfield 9, 3) := dk_181 0 9 (dk_at dksX20_init_0 6 rfl rfl)
theorem dX20_init_9 : decode cX20_init 9 = .ok (.return_, 1) := dk_177 (dk_at dksX20_init_0 9 rfl rfl)
theorem fw_X20_9 : cz_FW "HeldCoats$Days" 9 [(17, 0)] "I" := ⟨"HeldCoats$Days", "many", Or.inl q1582, List.forall_mem_cons.mpr ⟨⟨RX20, TX20, 1, rfl, by decide, rfl, rfl, Or.inl rfl⟩, fun _ h => absurd h List.not_mem_nil⟩, by decide⟩
theorem fp_X20_i_17_0 : cz_FP "HeldCoats$Days" "<init>" [(17, 0)] := List.forall_mem_cons.mpr ⟨⟨RX20, TX20, 1, rfl, Or.inr ⟨rfl, rfl, rfl⟩⟩, fun _ h => absurd h List.not_mem_nil⟩
set_option maxHeartbeats 4000000 in
set_option maxRecDepth 100000 in
noncomputable def fn_X20_init (l0 : Option Nat) (l1 : Int32) (h : cz_H) : cz_Z := cz_nn' l0 (cz_cV (fn_X12_init l0 h) (fun h3 => cz_put h3 l0 [(17, 0)] (cz_i l1) (fun h4 => some (.inl none, h4))))
set_option maxHeartbeats 4000000 in
set_option maxRecDepth 100000 in
theorem wk_X20_init {K : cz_K} {D : cz_D} {h0 : cz_H} {oh : cz_O × cz_H} {l0 : Option Nat} {l1 : Int32} {h : cz_H} (S : cz_S K D h0 cX20_init 2 "HeldCoats$Days" ((Option.none : Option Jvm.ClassFile.FieldType)) "<init>" ([])) : cz_T K D 4 h0 oh 2 (fn_X20_init l0 l1 h) h 0 [(0, cz_r l0), (1, cz_i l1)] [] := by
  unfold fn_X20_init
  refine ct_aload_n (k := 0) S dX20_init_0 rfl rfl ?_
  refine ct_nn (fun b1 hb2 => ?_)
  refine ct_cV (st := []) (cg_init (av := []) S hb2 (fun _ e => mt_X12_init e) q1163 (Or.inr ⟨_, q1581⟩) rfl q1162 q142 nh_HeldCoats_Act__init____V (by decide) (by decide) (Nat.le_of_ble_eq_true rfl) rfl dX20_init_1) (fun h3 => ?_)
  refine ct_aload_n (k := 0) S dX20_init_4 rfl rfl ?_
  refine ct_iload_n (k := 1) S dX20_init_5 rfl rfl ?_
  refine ct_put S fw_X20_9 fp_X20_i_17_0 (cz_fits_i pd_I) dX20_init_6 (fun h4 => ?_)
  exact ct_vret S rfl dX20_init_9
theorem mt_X20_init {l : Launch} {D : cz_D} {l0 : Option Nat} {l1 : Int32} {h : cz_H} {oh : cz_O × cz_H} (hz : fn_X20_init l0 l1 h = some oh) : cz_M l D yX20_init (ws_ yX20_init cX20_init 2 ((Option.none : Option Jvm.ClassFile.FieldType))) 4 [cz_r l0, cz_i l1] h oh := cz_met (plainFor_of_name (by decide)) (Nat.le_of_ble_eq_true rfl) hz (fun K hl S => wk_X20_init S)
/-! HeldCoats$Reader.holdNumber(II)I -/
def dkwX6_holdNumber_1 : List UInt8 := [28, 184, 0, 91, 5, 182, 0, 87, 42, 180, 0, 51, 172]
abbrev dktX6_holdNumber_1 : List UInt8 := dkwX6_holdNumber_1 ++ []
def dkwX6_holdNumber_0 : List UInt8 := [42, 42, 180, 0, 38, 6, 160, 0, 7, 4, 167, 0, 4, 3, 4, 182, 0, 87, 42, 42, 180, 0, 51, 27]
abbrev dktX6_holdNumber_0 : List UInt8 := dkwX6_holdNumber_0 ++ dktX6_holdNumber_1
theorem dksX6_holdNumber_0 : cX6_holdNumber.data.toList.drop 0 = dktX6_holdNumber_0 := by decide +kernel
theorem dksX6_holdNumber_1 : cX6_holdNumber.data.toList.drop 24 = dktX6_holdNumber_1 := dk_seg dksX6_holdNumber_0 24 rfl rfl
theorem dX6_holdNumber_0 : decode cX6_holdNumber 0 = .ok (.aload_n 0, 1) := dk_42 (dk_at dksX6_holdNumber_0 0 rfl rfl)
theorem dX6_holdNumber_1 : decode cX6_holdNumber 1 = .ok (.aload_n 0, 1) := dk_42 (dk_at dksX6_holdNumber_0 1 rfl rfl)
theorem dX6_holdNumber_2 : decode cX6_holdNumber 2 = .ok (.getfield 38, 3) := dk_180 0 38 (dk_at dksX6_holdNumber_0 2 rfl rfl)
theorem dX6_holdNumber_5 : decode cX6_holdNumber 5 = .ok (.iconst 3, 1) := dk_6 (dk_at dksX6_holdNumber_0 5 rfl rfl)
theorem dX6_holdNumber_6 : decode cX6_holdNumber 6 = .ok (.if_icmp .ne 7, 3) := dk_160 0 7 (dk_at dksX6_holdNumber_0 6 rfl rfl)
theorem dX6_holdNumber_9 : decode cX6_holdNumber 9 = .ok (.iconst 1, 1) := dk_4 (dk_at dksX6_holdNumber_0 9 rfl rfl)
theorem dX6_holdNumber_10 : decode cX6_holdNumber 10 = .ok (.goto 4, 3) := dk_167 0 4 (dk_at dksX6_holdNumber_0 10 rfl rfl)
theorem dX6_holdNumber_13 : decode cX6_holdNumber 13 = .ok (.iconst 0, 1) := dk_3 (dk_at dksX6_holdNumber_0 13 rfl rfl)
theorem dX6_holdNumber_14 : decode cX6_holdNumber 14 = .ok (.iconst 1, 1) := dk_4 (dk_at dksX6_holdNumber_0 14 rfl rfl)
theorem dX6_holdNumber_15 : decode cX6_holdNumber 15 = .ok (.invokevirtual 87, 3) := dk_182 0 87 (dk_at dksX6_holdNumber_0 15 rfl rfl)
theorem dX6_holdNumber_18 : decode cX6_holdNumber 18 = .ok (.aload_n 0, 1) := dk_42 (dk_at dksX6_holdNumber_0 18 rfl rfl)
theorem dX6_holdNumber_19 : decode cX6_holdNumber 19 = .ok (.aload_n 0, 1) := dk_42 (dk_at dksX6_holdNumber_0 19 rfl rfl)
theorem dX6_holdNumber_20 : decode cX6_holdNumber 20 = .ok (.getfield 51, 3) := dk_180 0 51 (dk_at dksX6_holdNumber_0 20 rfl rfl)
theorem dX6_holdNumber_23 : decode cX6_holdNumber 23 = .ok (.iload_n 1, 1) := dk_27 (dk_at dksX6_holdNumber_0 23 rfl rfl)
theorem dX6_holdNumber_24 : decode cX6_holdNumber 24 = .ok (.iload_n 2, 1) := dk_28 (dk_at dksX6_holdNumber_1 0 rfl rfl)
theorem dX6_holdNumber_25 : decode cX6_holdNumber 25 = .ok (.invokestatic 91, 3) := dk_184 0 91 (dk_at dksX6_holdNumber_1 1 rfl rfl)
theorem dX6_holdNumber_28 : decode cX6_holdNumber 28 = .ok (.iconst 2, 1) := dk_5 (dk_at dksX6_holdNumber_1 4 rfl rfl)
theorem dX6_holdNumber_29 : decode cX6_holdNumber 29 = .ok (.invokevirtual 87, 3) := dk_182 0 87 (dk_at dksX6_holdNumber_1 5 rfl rfl)
theorem dX6_holdNumber_32 : decode cX6_holdNumber 32 = .ok (.aload_n 0, 1) := dk_42 (dk_at dksX6_holdNumber_1 8 rfl rfl)
theorem dX6_holdNumber_33 : decode cX6_holdNumber 33 = .ok (.getfield 51, 3) := dk_180 0 51 (dk_at dksX6_holdNumber_1 9 rfl rfl)
theorem dX6_holdNumber_36 : decode cX6_holdNumber 36 = .ok (.ireturn, 1) := dk_172 (dk_at dksX6_holdNumber_1 12 rfl rfl)
set_option maxHeartbeats 4000000 in
set_option maxRecDepth 100000 in
noncomputable def fn_X6_holdNumber (l0 : Option Nat) (l1 : Int32) (l2 : Int32) (h : cz_H) : cz_Z := cz_getI h l0 [(6, 4), (16, 4), (18, 4)] (fun x1 => cz_jn (fun (v2 : Int32) (h3 : cz_H) => cz_rc h3 l0 [6, 16, 18] (cz_xV (fn_X6_need l0 v2 1 h3) (fun q11 h12 => cz_thr q11 h12) (fun h10 => cz_getI h10 l0 [(6, 6), (16, 6), (18, 6)] (fun x13 => cz_cI (fn_X1_isIn x13 l1 l2 h10) (fun x15 h14 => cz_rc h14 l0 [6, 16, 18] (cz_xV (fn_X6_need l0 x15 2 h14) (fun q23 h24 => cz_thr q23 h24) (fun h22 => cz_getI h22 l0 [(6, 6), (16, 6), (18, 6)] (fun x25 => some (.inl (some (cz_i x25)), h22))))))))) (fun j26 => (if x1 = 3 then j26 1 h else j26 0 h)))
set_option maxHeartbeats 4000000 in
set_option maxRecDepth 100000 in
theorem wk_X6_holdNumber {K : cz_K} {D : cz_D} {h0 : cz_H} {oh : cz_O × cz_H} {l0 : Option Nat} {l1 : Int32} {l2 : Int32} {h : cz_H} (S : cz_S K D h0 cX6_holdNumber 3 "HeldCoats$Reader" ((Option.some Jvm.ClassFile.FieldType.int)) "holdNumber" ([])) : cz_T K D 7 h0 oh 3 (fn_X6_holdNumber l0 l1 l2 h) h 0 [(0, cz_r l0), (1, cz_i l1), (2, cz_i l2)] [] := by
  unfold fn_X6_holdNumber
  refine ct_aload_n (k := 0) S dX6_holdNumber_0 rfl rfl ?_
  refine ct_aload_n (k := 0) S dX6_holdNumber_1 rfl rfl ?_
  refine ct_getI S fw_X6_38 dX6_holdNumber_2 (fun x1 => ?_)
  refine ct_iconst (v := 3) S dX6_holdNumber_5 kI_3 ?_
  refine ct_jnP (fun j26 => ∀ (v2 : Int32) (h3 : cz_H), cz_T K D 7 h0 oh 3 (j26 v2 h3) h3 14 [(0, cz_r l0), (1, cz_i l1), (2, cz_i l2)] [cz_i v2, cz_r l0]) (fun v2 h3 => ?_) (fun j26 Hj26 => ?_)
  · refine ct_iconst (v := 1) S dX6_holdNumber_14 kI_1 ?_
    refine ct_rc (fun b4 ci5 V6 hb7 hc8 hi9 => ?_)
    refine ct_xV (st := []) (cg_virtual (av := [cz_i v2, cz_i 1]) S hb7 hc8 hi9 (fun _ e => mt_X6_need e) md_X6_need q927 q749 se_HeldCoats_Reader_need__ZI_V_HeldCoats_Reader (by decide) (Nat.le_of_ble_eq_true rfl) rfl dX6_holdNumber_15) (fun q11 h12 => ?_) (fun h10 => ?_)
    · exact ct_out S (fun x hx => by cases hx)
    · refine ct_aload_n (k := 0) S dX6_holdNumber_18 rfl rfl ?_
      refine ct_aload_n (k := 0) S dX6_holdNumber_19 rfl rfl ?_
      refine ct_getI S fw_X6_51 dX6_holdNumber_20 (fun x13 => ?_)
      refine ct_iload_n (k := 1) S dX6_holdNumber_23 rfl rfl ?_
      refine ct_iload_n (k := 2) S dX6_holdNumber_24 rfl rfl ?_
      refine ct_cI (st := [cz_r l0]) (cg_static (av := [cz_i x13, cz_i l1, cz_i l2]) S (fun _ e => mt_X1_isIn e) md_X1_isIn (Or.inr ⟨_, q928⟩) q929 (by decide) (Nat.le_of_ble_eq_true rfl) rfl dX6_holdNumber_25) (fun x15 h14 => ?_)
      refine ct_iconst (v := 2) S dX6_holdNumber_28 kI_2 ?_
      refine ct_rc (fun b16 ci17 V18 hb19 hc20 hi21 => ?_)
      refine ct_xV (st := []) (cg_virtual (av := [cz_i x15, cz_i 2]) S hb19 hc20 hi21 (fun _ e => mt_X6_need e) md_X6_need q927 q749 se_HeldCoats_Reader_need__ZI_V_HeldCoats_Reader (by decide) (Nat.le_of_ble_eq_true rfl) rfl dX6_holdNumber_29) (fun q23 h24 => ?_) (fun h22 => ?_)
      · exact ct_out S (fun x hx => by cases hx)
      · refine ct_aload_n (k := 0) S dX6_holdNumber_32 rfl rfl ?_
        refine ct_getI S fw_X6_51 dX6_holdNumber_33 (fun x25 => ?_)
        exact ct_iret S rfl dX6_holdNumber_36
  · refine ct_icmp_ne (tgt := 13) S dX6_holdNumber_6 (by decide) ?_ ?_
    · refine ct_iconst (v := 0) S dX6_holdNumber_13 kI_0 ?_
      exact Hj26 0 h
    · refine ct_iconst (v := 1) S dX6_holdNumber_9 kI_1 ?_
      refine ct_goto (tgt := 14) S dX6_holdNumber_10 (by decide) ?_
      exact Hj26 1 h
theorem mt_X6_holdNumber {l : Launch} {D : cz_D} {l0 : Option Nat} {l1 : Int32} {l2 : Int32} {h : cz_H} {oh : cz_O × cz_H} (hz : fn_X6_holdNumber l0 l1 l2 h = some oh) : cz_M l D yX6_holdNumber (ws_ yX6_holdNumber cX6_holdNumber 3 ((Option.some Jvm.ClassFile.FieldType.int))) 7 [cz_r l0, cz_i l1, cz_i l2] h oh := cz_met (plainFor_of_name (by decide)) (Nat.le_of_ble_eq_true rfl) hz (fun K hl S => wk_X6_holdNumber S)
/-! HeldCoats$Reader.number(II)I -/
def dkwX6_number_0 : List UInt8 := [42, 27, 28, 182, 0, 95, 62, 42, 182, 0, 99, 29, 172]
abbrev dktX6_number_0 : List UInt8 := dkwX6_number_0 ++ []
theorem dksX6_number_0 : cX6_number.data.toList.drop 0 = dktX6_number_0 := by decide +kernel
theorem dX6_number_0 : decode cX6_number 0 = .ok (.aload_n 0, 1) := dk_42 (dk_at dksX6_number_0 0 rfl rfl)
theorem dX6_number_1 : decode cX6_number 1 = .ok (.iload_n 1, 1) := dk_27 (dk_at dksX6_number_0 1 rfl rfl)
theorem dX6_number_2 : decode cX6_number 2 = .ok (.iload_n 2, 1) := dk_28 (dk_at dksX6_number_0 2 rfl rfl)
theorem dX6_number_3 : decode cX6_number 3 = .ok (.invokevirtual 95, 3) := dk_182 0 95 (dk_at dksX6_number_0 3 rfl rfl)
theorem dX6_number_6 : decode cX6_number 6 = .ok (.istore_n 3, 1) := dk_62 (dk_at dksX6_number_0 6 rfl rfl)
theorem dX6_number_7 : decode cX6_number 7 = .ok (.aload_n 0, 1) := dk_42 (dk_at dksX6_number_0 7 rfl rfl)
theorem dX6_number_8 : decode cX6_number 8 = .ok (.invokevirtual 99, 3) := dk_182 0 99 (dk_at dksX6_number_0 8 rfl rfl)
theorem dX6_number_11 : decode cX6_number 11 = .ok (.iload_n 3, 1) := dk_29 (dk_at dksX6_number_0 11 rfl rfl)
theorem dX6_number_12 : decode cX6_number 12 = .ok (.ireturn, 1) := dk_172 (dk_at dksX6_number_0 12 rfl rfl)
theorem se_HeldCoats_Reader_holdNumber__II_I_HeldCoats_Reader : ∀ c ∈ ([6, 16, 18] : List Nat), ∃ q : vw_C, cz_cl[c]? = some q ∧ Cond.selects q.1 (⟨"HeldCoats$Reader", "holdNumber", "(II)I"⟩ : MethodName) (⟨"HeldCoats$Reader", "holdNumber", "(II)I"⟩ : MethodName) ∈ lw_all := List.forall_mem_cons.mpr ⟨⟨_, cz_cl6, q924⟩, List.forall_mem_cons.mpr ⟨⟨_, cz_cl16, q923⟩, List.forall_mem_cons.mpr ⟨⟨_, cz_cl18, q925⟩, fun _ h => absurd h List.not_mem_nil⟩⟩⟩
theorem md_X6_holdNumber : cz_md yX6_holdNumber 3 (ws_ yX6_holdNumber cX6_holdNumber 3 ((Option.some Jvm.ClassFile.FieldType.int))) 2 := ⟨cz_ws_code q926, q124, ⟨by decide, by decide, by decide +kernel⟩, by decide⟩
set_option maxHeartbeats 4000000 in
set_option maxRecDepth 100000 in
noncomputable def fn_X6_number (l0 : Option Nat) (l1 : Int32) (l2 : Int32) (h : cz_H) : cz_Z := cz_rc h l0 [6, 16, 18] (cz_xI (fn_X6_holdNumber l0 l1 l2 h) (fun q8 h9 => cz_thr q8 h9) (fun x10 h7 => cz_rc h7 l0 [6, 16, 18] (cz_cV (fn_X6_go l0 h7) (fun h17 => some (.inl (some (cz_i x10)), h17)))))
set_option maxHeartbeats 4000000 in
set_option maxRecDepth 100000 in
theorem wk_X6_number {K : cz_K} {D : cz_D} {h0 : cz_H} {oh : cz_O × cz_H} {l0 : Option Nat} {l1 : Int32} {l2 : Int32} {h : cz_H} (S : cz_S K D h0 cX6_number 4 "HeldCoats$Reader" ((Option.some Jvm.ClassFile.FieldType.int)) "number" ([])) : cz_T K D 9 h0 oh 4 (fn_X6_number l0 l1 l2 h) h 0 [(0, cz_r l0), (1, cz_i l1), (2, cz_i l2)] [] := by
  unfold fn_X6_number
  refine ct_aload_n (k := 0) S dX6_number_0 rfl rfl ?_
  refine ct_iload_n (k := 1) S dX6_number_1 rfl rfl ?_
  refine ct_iload_n (k := 2) S dX6_number_2 rfl rfl ?_
  refine ct_rc (fun b1 ci2 V3 hb4 hc5 hi6 => ?_)
  refine ct_xI (st := []) (cg_virtual (av := [cz_i l1, cz_i l2]) S hb4 hc5 hi6 (fun _ e => mt_X6_holdNumber e) md_X6_holdNumber q920 q921 se_HeldCoats_Reader_holdNumber__II_I_HeldCoats_Reader (by decide) (Nat.le_of_ble_eq_true rfl) rfl dX6_number_3) (fun q8 h9 => ?_) (fun x10 h7 => ?_)
  · exact ct_out S (fun x hx => by cases hx)
  · refine ct_istore_n (L' := [(3, cz_i x10), (0, cz_r l0), (1, cz_i l1), (2, cz_i l2)]) S dX6_number_6 rfl (by decide) rfl ?_
    refine ct_aload_n (k := 1) S dX6_number_7 rfl rfl ?_
    refine ct_rc (fun b11 ci12 V13 hb14 hc15 hi16 => ?_)
    refine ct_cV (st := []) (cg_virtual (av := []) S hb14 hc15 hi16 (fun _ e => mt_X6_go e) md_X6_go q931 q520 se_HeldCoats_Reader_go___V_HeldCoats_Reader (by decide) (Nat.le_of_ble_eq_true rfl) rfl dX6_number_8) (fun h17 => ?_)
    refine ct_iload_n (k := 0) S dX6_number_11 rfl rfl ?_
    exact ct_iret S rfl dX6_number_12
theorem mt_X6_number {l : Launch} {D : cz_D} {l0 : Option Nat} {l1 : Int32} {l2 : Int32} {h : cz_H} {oh : cz_O × cz_H} (hz : fn_X6_number l0 l1 l2 h = some oh) : cz_M l D yX6_number (ws_ yX6_number cX6_number 4 ((Option.some Jvm.ClassFile.FieldType.int))) 9 [cz_r l0, cz_i l1, cz_i l2] h oh := cz_met (plainFor_of_name (by decide)) (Nat.le_of_ble_eq_true rfl) hz (fun K hl S => wk_X6_number S)
/-! HeldCoats$BookReader.act()LHeldCoats$Act; -/
def dkwX19_act_5 : List UInt8 := [42, 28, 182, 0, 81, 167, 0, 8, 42, 29, 182, 0, 85, 176]
abbrev dktX19_act_5 : List UInt8 := dkwX19_act_5 ++ []
def dkwX19_act_4 : List UInt8 := [27, 153, 0, 18, 187, 0, 72, 89, 42, 4, 16, 60, 182, 0, 74, 183, 0, 78, 176, 28, 2, 159, 0, 11]
abbrev dktX19_act_4 : List UInt8 := dkwX19_act_4 ++ dktX19_act_5
def dkwX19_act_3 : List UInt8 := [180, 0, 14, 182, 0, 68, 16, 40, 162, 0, 7, 4, 167, 0, 4, 3, 7, 182, 0, 52, 42, 182, 0, 24]
abbrev dktX19_act_3 : List UInt8 := dkwX19_act_3 ++ dktX19_act_4
def dkwX19_act_2 : List UInt8 := [42, 28, 2, 160, 0, 8, 29, 2, 159, 0, 7, 4, 167, 0, 4, 3, 6, 182, 0, 52, 42, 42]
abbrev dktX19_act_2 : List UInt8 := dkwX19_act_2 ++ dktX19_act_3
def dkwX19_act_1 : List UInt8 := [42, 42, 180, 0, 20, 180, 0, 56, 182, 0, 61, 61, 42, 42, 180, 0, 20, 180, 0, 65, 182, 0, 61, 62]
abbrev dktX19_act_1 : List UInt8 := dkwX19_act_1 ++ dktX19_act_2
def dkwX19_act_0 : List UInt8 := [42, 18, 42, 182, 0, 44, 60, 2, 61, 2, 62, 27, 154, 0, 56, 42, 42, 182, 0, 48, 4, 182, 0, 52]
abbrev dktX19_act_0 : List UInt8 := dkwX19_act_0 ++ dktX19_act_1
theorem dksX19_act_0 : cX19_act.data.toList.drop 0 = dktX19_act_0 := by decide +kernel
theorem dksX19_act_1 : cX19_act.data.toList.drop 24 = dktX19_act_1 := dk_seg dksX19_act_0 24 rfl rfl
theorem dksX19_act_2 : cX19_act.data.toList.drop 48 = dktX19_act_2 := dk_seg dksX19_act_1 24 rfl rfl
theorem dksX19_act_3 : cX19_act.data.toList.drop 70 = dktX19_act_3 := dk_seg dksX19_act_2 22 rfl rfl
theorem dksX19_act_4 : cX19_act.data.toList.drop 94 = dktX19_act_4 := dk_seg dksX19_act_3 24 rfl rfl
theorem dksX19_act_5 : cX19_act.data.toList.drop 118 = dktX19_act_5 := dk_seg dksX19_act_4 24 rfl rfl
theorem dX19_act_0 : decode cX19_act 0 = .ok (.aload_n 0, 1) := dk_42 (dk_at dksX19_act_0 0 rfl rfl)
theorem dX19_act_1 : decode cX19_act 1 = .ok (.ldc 42, 2) := dk_18 42 (dk_at dksX19_act_0 1 rfl rfl)
theorem dX19_act_3 : decode cX19_act 3 = .ok (.invokevirtual 44, 3) := dk_182 0 44 (dk_at dksX19_act_0 3 rfl rfl)
theorem dX19_act_6 : decode cX19_act 6 = .ok (.istore_n 1, 1) := dk_60 (dk_at dksX19_act_0 6 rfl rfl)
theorem dX19_act_7 : decode cX19_act 7 = .ok (.iconst (-1), 1) := dk_2 (dk_at dksX19_act_0 7 rfl rfl)
theorem dX19_act_8 : decode cX19_act 8 = .ok (.istore_n 2, 1) := dk_61 (dk_at dksX19_act_0 8 rfl rfl)
theorem dX19_act_9 : decode cX19_act 9 = .ok (.iconst (-1), 1) := dk_2 (dk_at dksX19_act_0 9 rfl rfl)
theorem dX19_act_10 : decode cX19_act 10 = .ok (.istore_n 3, 1) := dk_62 (dk_at dksX19_act_0 10 rfl rfl)
theorem dX19_act_11 : decode cX19_act 11 = .ok (.iload_n 1, 1) := dk_27 (dk_at dksX19_act_0 11 rfl rfl)
theorem dX19_act_12 : decode cX19_act 12 = .ok (.ifCond .ne 56, 3) := dk_154 0 56 (dk_at dksX19_act_0 12 rfl rfl)
theorem dX19_act_15 : decode cX19_act 15 = .ok (.aload_n 0, 1) := dk_42 (dk_at dksX19_act_0 15 rfl rfl)
theorem dX19_act_16 : decode cX19_act 16 = .ok (.aload_n 0, 1) := dk_42 (dk_at dksX19_act_0 16 rfl rfl)
theorem dX19_act_17 : decode cX19_act 17 = .ok (.invokevirtual 48, 3) := dk_182 0 48 (dk_at dksX19_act_0 17 rfl rfl)
theorem dX19_act_20 : decode cX19_act 20 = .ok (.iconst 1, 1) := dk_4 (dk_at dksX19_act_0 20 rfl rfl)
theorem dX19_act_21 : decode cX19_act 21 = .ok (.invokevirtual 52, 3) := dk_182 0 52 (dk_at dksX19_act_0 21 rfl rfl)
theorem dX19_act_24 : decode cX19_act 24 = .ok (.aload_n 0, 1) := dk_42 (dk_at dksX19_act_1 0 rfl rfl)
theorem dX19_act_25 : decode cX19_act 25 = .ok (.aload_n 0, 1) := dk_42 (dk_at dksX19_act_1 1 rfl rfl)
theorem dX19_act_26 : decode cX19_act 26 = .ok (.getfield 20, 3) := dk_180 0 20 (dk_at dksX19_act_1 2 rfl rfl)
theorem dX19_act_29 : decode cX19_act 29 = .ok (.getfield 56, 3) := dk_180 0 56 (dk_at dksX19_act_1 5 rfl rfl)
theorem dX19_act_32 : decode cX19_act 32 = .ok (.invokevirtual 61, 3) := dk_182 0 61 (dk_at dksX19_act_1 8 rfl rfl)
theorem dX19_act_35 : decode cX19_act 35 = .ok (.istore_n 2, 1) := dk_61 (dk_at dksX19_act_1 11 rfl rfl)
theorem dX19_act_36 : decode cX19_act 36 = .ok (.aload_n 0, 1) := dk_42 (dk_at dksX19_act_1 12 rfl rfl)
theorem dX19_act_37 : decode cX19_act 37 = .ok (.aload_n 0, 1) := dk_42 (dk_at dksX19_act_1 13 rfl rfl)
theorem dX19_act_38 : decode cX19_act 38 = .ok (.getfield 20, 3) := dk_180 0 20 (dk_at dksX19_act_1 14 rfl rfl)
theorem dX19_act_41 : decode cX19_act 41 = .ok (.getfield 65, 3) := dk_180 0 65 (dk_at dksX19_act_1 17 rfl rfl)
theorem dX19_act_44 : decode cX19_act 44 = .ok (.invokevirtual 61, 3) := dk_182 0 61 (dk_at dksX19_act_1 20 rfl rfl)
theorem dX19_act_47 : decode cX19_act 47 = .ok (.istore_n 3, 1) := dk_62 (dk_at dksX19_act_1 23 rfl rfl)
theorem dX19_act_48 : decode cX19_act 48 = .ok (.aload_n 0, 1) := dk_42 (dk_at dksX19_act_2 0 rfl rfl)
theorem dX19_act_49 : decode cX19_act 49 = .ok (.iload_n 2, 1) := dk_28 (dk_at dksX19_act_2 1 rfl rfl)
theorem dX19_act_50 : decode cX19_act 50 = .ok (.iconst (-1), 1) := dk_2 (dk_at dksX19_act_2 2 rfl rfl)
theorem dX19_act_51 : decode cX19_act 51 = .ok (.if_icmp .ne 8, 3) := dk_160 0 8 (dk_at dksX19_act_2 3 rfl rfl)
theorem dX19_act_54 : decode cX19_act 54 = .ok (.iload_n 3, 1) := dk_29 (dk_at dksX19_act_2 6 rfl rfl)
theorem dX19_act_55 : decode cX19_act 55 = .ok (.iconst (-1), 1) := dk_2 (dk_at dksX19_act_2 7 rfl rfl)
theorem dX19_act_56 : decode cX19_act 56 = .ok (.if_icmp .eq 7, 3) := dk_159 0 7 (dk_at dksX19_act_2 8 rfl rfl)
theorem dX19_act_59 : decode cX19_act 59 = .ok (.iconst 1, 1) := dk_4 (dk_at dksX19_act_2 11 rfl rfl)
theorem dX19_act_60 : decode cX19_act 60 = .ok (.goto 4, 3) := dk_167 0 4 (dk_at dksX19_act_2 12 rfl rfl)
theorem dX19_act_63 : decode cX19_act 63 = .ok (.iconst 0, 1) := dk_3 (dk_at dksX19_act_2 15 rfl rfl)
theorem dX19_act_64 : decode cX19_act 64 = .ok (.iconst 3, 1) := dk_6 (dk_at dksX19_act_2 16 rfl rfl)
theorem dX19_act_65 : decode cX19_act 65 = .ok (.invokevirtual 52, 3) := dk_182 0 52 (dk_at dksX19_act_2 17 rfl rfl)
theorem dX19_act_68 : decode cX19_act 68 = .ok (.aload_n 0, 1) := dk_42 (dk_at dksX19_act_2 20 rfl rfl)
theorem dX19_act_69 : decode cX19_act 69 = .ok (.aload_n 0, 1) := dk_42 (dk_at dksX19_act_2 21 rfl rfl)
theorem dX19_act_70 : decode cX19_act 70 = .ok (.getfield 14, 3) := dk_180 0 14 (dk_at dksX19_act_3 0 rfl rfl)
theorem dX19_act_73 : decode cX19_act 73 = .ok (.invokevirtual 68, 3) := dk_182 0 68 (dk_at dksX19_act_3 3 rfl rfl)
theorem dX19_act_76 : decode cX19_act 76 = .ok (.bipush 40, 2) := dk_16 40 (dk_at dksX19_act_3 6 rfl rfl)
theorem dX19_act_78 : decode cX19_act 78 = .ok (.if_icmp .ge 7, 3) := dk_162 0 7 (dk_at dksX19_act_3 8 rfl rfl)
theorem dX19_act_81 : decode cX19_act 81 = .ok (.iconst 1, 1) := dk_4 (dk_at dksX19_act_3 11 rfl rfl)
theorem dX19_act_82 : decode cX19_act 82 = .ok (.goto 4, 3) := dk_167 0 4 (dk_at dksX19_act_3 12 rfl rfl)
theorem dX19_act_85 : decode cX19_act 85 = .ok (.iconst 0, 1) := dk_3 (dk_at dksX19_act_3 15 rfl rfl)
theorem dX19_act_86 : decode cX19_act 86 = .ok (.iconst 4, 1) := dk_7 (dk_at dksX19_act_3 16 rfl rfl)
theorem dX19_act_87 : decode cX19_act 87 = .ok (.invokevirtual 52, 3) := dk_182 0 52 (dk_at dksX19_act_3 17 rfl rfl)
theorem dX19_act_90 : decode cX19_act 90 = .ok (.aload_n 0, 1) := dk_42 (dk_at dksX19_act_3 20 rfl rfl)
theorem dX19_act_91 : decode cX19_act 91 = .ok (.invokevirtual 24, 3) := dk_182 0 24 (dk_at dksX19_act_3 21 rfl rfl)
theorem dX19_act_94 : decode cX19_act 94 = .ok (.iload_n 1, 1) := dk_27 (dk_at dksX19_act_4 0 rfl rfl)
theorem dX19_act_95 : decode cX19_act 95 = .ok (.ifCond .eq 18, 3) := dk_153 0 18 (dk_at dksX19_act_4 1 rfl rfl)
theorem dX19_act_98 : decode cX19_act 98 = .ok (.new 72, 3) := dk_187 0 72 (dk_at dksX19_act_4 4 rfl rfl)
theorem dX19_act_101 : decode cX19_act 101 = .ok (.dup, 1) := dk_89 (dk_at dksX19_act_4 7 rfl rfl)
theorem dX19_act_102 : decode cX19_act 102 = .ok (.aload_n 0, 1) := dk_42 (dk_at dksX19_act_4 8 rfl rfl)
theorem dX19_act_103 : decode cX19_act 103 = .ok (.iconst 1, 1) := dk_4 (dk_at dksX19_act_4 9 rfl rfl)
theorem dX19_act_104 : decode cX19_act 104 = .ok (.bipush 60, 2) := dk_16 60 (dk_at dksX19_act_4 10 rfl rfl)
theorem dX19_act_106 : decode cX19_act 106 = .ok (.invokevirtual 74, 3) := dk_182 0 74 (dk_at dksX19_act_4 12 rfl rfl)
theorem dX19_act_109 : decode cX19_act 109 = .ok (.invokespecial 78, 3) := dk_183 0 78 (dk_at dksX19_act_4 15 rfl rfl)
theorem dX19_act_112 : decode cX19_act 112 = .ok (.areturn, 1) := dk_176 (dk_at dksX19_act_4 18 rfl rfl)
theorem dX19_act_113 : decode cX19_act 113 = .ok (.iload_n 2, 1) := dk_28 (dk_at dksX19_act_4 19 rfl rfl)
theorem dX19_act_114 : decode cX19_act 114 = .ok (.iconst (-1), 1) := dk_2 (dk_at dksX19_act_4 20 rfl rfl)
theorem dX19_act_115 : decode cX19_act 115 = .ok (.if_icmp .eq 11, 3) := dk_159 0 11 (dk_at dksX19_act_4 21 rfl rfl)
theorem dX19_act_118 : decode cX19_act 118 = .ok (.aload_n 0, 1) := dk_42 (dk_at dksX19_act_5 0 rfl rfl)
theorem dX19_act_119 : decode cX19_act 119 = .ok (.iload_n 2, 1) := dk_28 (dk_at dksX19_act_5 1 rfl rfl)
theorem dX19_act_120 : decode cX19_act 120 = .ok (.invokevirtual 81, 3) := dk_182 0 81 (dk_at dksX19_act_5 2 rfl rfl)
theorem dX19_act_123 : decode cX19_act 123 = .ok (.goto 8, 3) := dk_167 0 8 (dk_at dksX19_act_5 5 rfl rfl)
theorem dX19_act_126 : decode cX19_act 126 = .ok (.aload_n 0, 1) := dk_42 (dk_at dksX19_act_5 8 rfl rfl)
theorem dX19_act_127 : decode cX19_act 127 = .ok (.iload_n 3, 1) := dk_29 (dk_at dksX19_act_5 9 rfl rfl)
theorem dX19_act_128 : decode cX19_act 128 = .ok (.invokevirtual 85, 3) := dk_182 0 85 (dk_at dksX19_act_5 10 rfl rfl)
theorem dX19_act_131 : decode cX19_act 131 = .ok (.areturn, 1) := dk_176 (dk_at dksX19_act_5 13 rfl rfl)
theorem se_HeldCoats_BookReader_of__I_LHeldCoats_Act__HeldCoats_BookReader : ∀ c ∈ ([16] : List Nat), ∃ q : vw_C, cz_cl[c]? = some q ∧ Cond.selects q.1 (⟨"HeldCoats$BookReader", "of", "(I)LHeldCoats$Act;"⟩ : MethodName) (⟨"HeldCoats$BookReader", "of", "(I)LHeldCoats$Act;"⟩ : MethodName) ∈ lw_all := List.forall_mem_cons.mpr ⟨⟨_, cz_cl16, qs36⟩, fun _ h => absurd h List.not_mem_nil⟩
theorem md_X19_of : cz_md yX19_of 4 (ws_ yX19_of cX19_of 4 ((Option.some (Jvm.ClassFile.FieldType.object "HeldCoats$Act")))) 1 := ⟨cz_ws_code q1599, q150, ⟨by decide, by decide, by decide +kernel⟩, by decide⟩
theorem se_HeldCoats_BookReader_wears__I_LHeldCoats_Act__HeldCoats_BookReader : ∀ c ∈ ([16] : List Nat), ∃ q : vw_C, cz_cl[c]? = some q ∧ Cond.selects q.1 (⟨"HeldCoats$BookReader", "wears", "(I)LHeldCoats$Act;"⟩ : MethodName) (⟨"HeldCoats$BookReader", "wears", "(I)LHeldCoats$Act;"⟩ : MethodName) ∈ lw_all := List.forall_mem_cons.mpr ⟨⟨_, cz_cl16, qs35⟩, fun _ h => absurd h List.not_mem_nil⟩
theorem md_X19_wears : cz_md yX19_wears 2 (ws_ yX19_wears cX19_wears 2 ((Option.some (Jvm.ClassFile.FieldType.object "HeldCoats$Act")))) 1 := ⟨cz_ws_code q1589, q150, ⟨by decide, by decide, by decide +kernel⟩, by decide⟩
theorem se_HeldCoats_BookReader_number__II_I_HeldCoats_Reader : ∀ c ∈ ([16] : List Nat), ∃ q : vw_C, cz_cl[c]? = some q ∧ Cond.selects q.1 (⟨"HeldCoats$BookReader", "number", "(II)I"⟩ : MethodName) (⟨"HeldCoats$Reader", "number", "(II)I"⟩ : MethodName) ∈ lw_all := List.forall_mem_cons.mpr ⟨⟨_, cz_cl16, q1577⟩, fun _ h => absurd h List.not_mem_nil⟩
theorem nh_HeldCoats_BookReader_number__II_I : cz_nh ⟨"HeldCoats$BookReader", "number", "(II)I"⟩ 2 := ⟨by decide, by decide, by decide +kernel⟩
theorem nh_HeldCoats_Days__init___I_V : cz_nh ⟨"HeldCoats$Days", "<init>", "(I)V"⟩ 1 := ⟨by decide, by decide, by decide +kernel⟩
theorem se_HeldCoats_BookReader_isName___Z_HeldCoats_Reader : ∀ c ∈ ([16] : List Nat), ∃ q : vw_C, cz_cl[c]? = some q ∧ Cond.selects q.1 (⟨"HeldCoats$BookReader", "isName", "()Z"⟩ : MethodName) (⟨"HeldCoats$Reader", "isName", "()Z"⟩ : MethodName) ∈ lw_all := List.forall_mem_cons.mpr ⟨⟨_, cz_cl16, q1565⟩, fun _ h => absurd h List.not_mem_nil⟩
theorem nh_HeldCoats_BookReader_isName___Z : cz_nh ⟨"HeldCoats$BookReader", "isName", "()Z"⟩ 0 := ⟨by decide, by decide, by decide +kernel⟩
theorem se_HeldCoats_BookReader_find__Ljava_util_ArrayList__I_HeldCoats_Reader : ∀ c ∈ ([16] : List Nat), ∃ q : vw_C, cz_cl[c]? = some q ∧ Cond.selects q.1 (⟨"HeldCoats$BookReader", "find", "(Ljava/util/ArrayList;)I"⟩ : MethodName) (⟨"HeldCoats$Reader", "find", "(Ljava/util/ArrayList;)I"⟩ : MethodName) ∈ lw_all := List.forall_mem_cons.mpr ⟨⟨_, cz_cl16, q1571⟩, fun _ h => absurd h List.not_mem_nil⟩
theorem nh_HeldCoats_BookReader_find__Ljava_util_ArrayList__I : cz_nh ⟨"HeldCoats$BookReader", "find", "(Ljava/util/ArrayList;)I"⟩ 1 := ⟨by decide, by decide, by decide +kernel⟩
set_option maxHeartbeats 4000000 in
set_option maxRecDepth 100000 in
noncomputable def fn_X19_act (l0 : Option Nat) (h : cz_H) : cz_Z := cz_rc h l0 [16] (cz_cI (fn_X6_is l0 (h.1.2.2.2 11) h) (fun x8 h7 => cz_jn (fun (v9 : Int32) (v10 : Int32) (h11 : cz_H) => cz_getR h11 l0 [(16, 10)] (fun r12 => cz_rc h11 r12 [2] (cz_cI (fn_J2_size r12 h11) (fun x20 h19 => cz_jn (fun (v21 : Int32) (h22 : cz_H) => cz_rc h22 l0 [16] (cz_xV (fn_X6_need l0 v21 4 h22) (fun q30 h31 => cz_thr q30 h31) (fun h29 => cz_rc h29 l0 [16] (cz_cV (fn_X6_go l0 h29) (fun h38 => (if x8 = 0 then (if v9 = (-1) then cz_rc h38 l0 [16] (cz_xR (fn_X19_of l0 v10 h38) (fun q46 h47 => cz_thr q46 h47) (fun r48 h45 => some (.inl (some (cz_r r48)), h45))) else cz_rc h38 l0 [16] (cz_xR (fn_X19_wears l0 v9 h38) (fun q56 h57 => cz_thr q56 h57) (fun r58 h55 => some (.inl (some (cz_r r58)), h55)))) else cz_newo h38 17 1 (fun r59 h60 => cz_rc h60 l0 [16] (cz_xI (fn_X6_number l0 1 60 h60) (fun q68 h69 => cz_thr q68 h69) (fun x70 h67 => cz_nn' r59 (cz_cV (fn_X20_init r59 x70 h67) (fun h73 => some (.inl (some (cz_r r59)), h73)))))))))))) (fun j74 => (if (40 : Int32) ≤ x20 then j74 0 h19 else j74 1 h19)))))) (fun j75 => (if x8 = 0 then cz_rc h7 l0 [16] (cz_cI (fn_X6_isName l0 h7) (fun x83 h82 => cz_rc h82 l0 [16] (cz_xV (fn_X6_need l0 x83 1 h82) (fun q91 h92 => cz_thr q91 h92) (fun h90 => cz_getR h90 l0 [(16, 9)] (fun r93 => cz_getR h90 r93 [(1, 7)] (fun r94 => cz_rc h90 l0 [16] (cz_cI (fn_X6_find l0 r94 h90) (fun x102 h101 => cz_getR h101 l0 [(16, 9)] (fun r103 => cz_getR h101 r103 [(1, 8)] (fun r104 => cz_rc h101 l0 [16] (cz_cI (fn_X6_find l0 r104 h101) (fun x112 h111 => cz_jn (fun (v113 : Int32) (h114 : cz_H) => cz_rc h114 l0 [16] (cz_xV (fn_X6_need l0 v113 3 h114) (fun q122 h123 => cz_thr q122 h123) (fun h121 => j75 x102 x112 h121))) (fun j124 => cz_jn (fun (h125 : cz_H) => j124 1 h125) (fun j126 => (if x102 = (-1) then (if x112 = (-1) then j124 0 h111 else j126 h111) else j126 h111))))))))))))))) else j75 (-1) (-1) h7))))
set_option maxHeartbeats 4000000 in
set_option maxRecDepth 100000 in
theorem wk_X19_act {K : cz_K} {D : cz_D} {h0 : cz_H} {oh : cz_O × cz_H} {l0 : Option Nat} {h : cz_H} (S : cz_S K D h0 cX19_act 4 "HeldCoats$BookReader" ((Option.some (Jvm.ClassFile.FieldType.object "HeldCoats$Act"))) "act" ([])) : cz_T K D 11 h0 oh 4 (fn_X19_act l0 h) h 0 [(0, cz_r l0)] [] := by
  unfold fn_X19_act
  refine ct_aload_n (k := 0) S dX19_act_0 rfl rfl ?_
  refine ct_ldcS (i := 11) S rfl dX19_act_1 ?_
  refine ct_rc (fun b1 ci2 V3 hb4 hc5 hi6 => ?_)
  refine ct_cI (st := []) (cg_up (owner := "HeldCoats$Reader") (av := [cz_r (h.1.2.2.2 11)]) S hb4 hc5 hi6 (fun _ e => mt_X6_is e) q727 q1560 q1561 (Or.inl q724) ⟨by decide, by decide⟩ q726 q124 nh_HeldCoats_BookReader_is__Ljava_lang_String__Z se_HeldCoats_BookReader_is__Ljava_lang_String__Z_HeldCoats_Reader (by decide) (by decide) (Nat.le_of_ble_eq_true rfl) rfl dX19_act_3) (fun x8 h7 => ?_)
  refine ct_istore_n (L' := [(1, cz_i x8), (0, cz_r l0)]) S dX19_act_6 rfl (by decide) rfl ?_
  refine ct_iconst (v := (-1)) S dX19_act_7 kI_m1 ?_
  refine ct_istore_n (L' := [(2, cz_i (-1)), (1, cz_i x8), (0, cz_r l0)]) S dX19_act_8 rfl (by decide) rfl ?_
  refine ct_iconst (v := (-1)) S dX19_act_9 kI_m1 ?_
  refine ct_istore_n (L' := [(3, cz_i (-1)), (2, cz_i (-1)), (1, cz_i x8), (0, cz_r l0)]) S dX19_act_10 rfl (by decide) rfl ?_
  refine ct_iload_n (k := 2) S dX19_act_11 rfl rfl ?_
  refine ct_jnP (fun j75 => ∀ (v9 : Int32) (v10 : Int32) (h11 : cz_H), cz_T K D 11 h0 oh 4 (j75 v9 v10 h11) h11 68 [(0, cz_r l0), (1, cz_i x8), (2, cz_i v9), (3, cz_i v10)] []) (fun v9 v10 h11 => ?_) (fun j75 Hj75 => ?_)
  · refine ct_aload_n (k := 0) S dX19_act_68 rfl rfl ?_
    refine ct_aload_n (k := 0) S dX19_act_69 rfl rfl ?_
    refine ct_getR S fw_X19_14 dX19_act_70 (fun r12 => ?_)
    refine ct_rc (fun b13 ci14 V15 hb16 hc17 hi18 => ?_)
    refine ct_cI (st := [cz_r l0]) (cg_virtual (av := []) S hb16 hc17 hi18 (fun _ e => mt_J2_size e) md_J2_size q1572 q341 se_java_util_ArrayList_size___I_java_util_ArrayList (by decide) (Nat.le_of_ble_eq_true rfl) rfl dX19_act_73) (fun x20 h19 => ?_)
    refine ct_bipush (v := 40) S dX19_act_76 kB_40 ?_
    refine ct_jnP (fun j74 => ∀ (v21 : Int32) (h22 : cz_H), cz_T K D 11 h0 oh 4 (j74 v21 h22) h22 86 [(0, cz_r l0), (1, cz_i x8), (2, cz_i v9), (3, cz_i v10)] [cz_i v21, cz_r l0]) (fun v21 h22 => ?_) (fun j74 Hj74 => ?_)
    · refine ct_iconst (v := 4) S dX19_act_86 kI_4 ?_
      refine ct_rc (fun b23 ci24 V25 hb26 hc27 hi28 => ?_)
      refine ct_xV (st := []) (cg_up (owner := "HeldCoats$Reader") (av := [cz_i v21, cz_i 4]) S hb26 hc27 hi28 (fun _ e => mt_X6_need e) q750 q1566 q1567 (Or.inl q747) ⟨by decide, by decide⟩ q749 q124 nh_HeldCoats_BookReader_need__ZI_V se_HeldCoats_BookReader_need__ZI_V_HeldCoats_Reader (by decide) (by decide) (Nat.le_of_ble_eq_true rfl) rfl dX19_act_87) (fun q30 h31 => ?_) (fun h29 => ?_)
      · exact ct_out S (fun x hx => by cases hx)
      · refine ct_aload_n (k := 0) S dX19_act_90 rfl rfl ?_
        refine ct_rc (fun b32 ci33 V34 hb35 hc36 hi37 => ?_)
        refine ct_cV (st := []) (cg_up (owner := "HeldCoats$Reader") (av := []) S hb35 hc36 hi37 (fun _ e => mt_X6_go e) q521 q1552 q1553 (Or.inl q518) ⟨by decide, by decide⟩ q520 q124 nh_HeldCoats_BookReader_go___V se_HeldCoats_BookReader_go___V_HeldCoats_Reader (by decide) (by decide) (Nat.le_of_ble_eq_true rfl) rfl dX19_act_91) (fun h38 => ?_)
        refine ct_iload_n (k := 1) S dX19_act_94 rfl rfl ?_
        refine ct_if_eq (tgt := 113) S dX19_act_95 (by decide) ?_ ?_
        · refine ct_iload_n (k := 2) S dX19_act_113 rfl rfl ?_
          refine ct_iconst (v := (-1)) S dX19_act_114 kI_m1 ?_
          refine ct_icmp_eq (tgt := 126) S dX19_act_115 (by decide) ?_ ?_
          · refine ct_aload_n (k := 0) S dX19_act_126 rfl rfl ?_
            refine ct_iload_n (k := 3) S dX19_act_127 rfl rfl ?_
            refine ct_rc (fun b39 ci40 V41 hb42 hc43 hi44 => ?_)
            refine ct_xR (st := []) (cg_virtual (av := [cz_i v10]) S hb42 hc43 hi44 (fun _ e => mt_X19_of e) md_X19_of q1596 q1598 se_HeldCoats_BookReader_of__I_LHeldCoats_Act__HeldCoats_BookReader (by decide) (Nat.le_of_ble_eq_true rfl) rfl dX19_act_128) (fun q46 h47 => ?_) (fun r48 h45 => ?_)
            · exact ct_out S (fun x hx => by cases hx)
            · exact ct_aret S rfl (Or.inl ⟨_, rfl⟩) dX19_act_131
          · refine ct_aload_n (k := 0) S dX19_act_118 rfl rfl ?_
            refine ct_iload_n (k := 2) S dX19_act_119 rfl rfl ?_
            refine ct_rc (fun b49 ci50 V51 hb52 hc53 hi54 => ?_)
            refine ct_xR (st := []) (cg_virtual (av := [cz_i v9]) S hb52 hc53 hi54 (fun _ e => mt_X19_wears e) md_X19_wears q1586 q1588 se_HeldCoats_BookReader_wears__I_LHeldCoats_Act__HeldCoats_BookReader (by decide) (Nat.le_of_ble_eq_true rfl) rfl dX19_act_120) (fun q56 h57 => ?_) (fun r58 h55 => ?_)
            · exact ct_out S (fun x hx => by cases hx)
            · refine ct_goto (tgt := 131) S dX19_act_123 (by decide) ?_
              exact ct_aret S rfl (Or.inl ⟨_, rfl⟩) dX19_act_131
        · refine ct_newo S (by decide) cz_cl17 q1573 dX19_act_98 (fun r59 h60 => ?_)
          refine ct_dup S dX19_act_101 rfl ?_
          refine ct_aload_n (k := 0) S dX19_act_102 rfl rfl ?_
          refine ct_iconst (v := 1) S dX19_act_103 kI_1 ?_
          refine ct_bipush (v := 60) S dX19_act_104 kB_60 ?_
          refine ct_rc (fun b61 ci62 V63 hb64 hc65 hi66 => ?_)
          refine ct_xI (st := [cz_r r59, cz_r r59]) (cg_up (owner := "HeldCoats$Reader") (av := [cz_i 1, cz_i 60]) S hb64 hc65 hi66 (fun _ e => mt_X6_number e) q919 q1575 q1576 (Or.inl q916) ⟨by decide, by decide⟩ q918 q124 nh_HeldCoats_BookReader_number__II_I se_HeldCoats_BookReader_number__II_I_HeldCoats_Reader (by decide) (by decide) (Nat.le_of_ble_eq_true rfl) rfl dX19_act_106) (fun q68 h69 => ?_) (fun x70 h67 => ?_)
          · exact ct_out S (fun x hx => by cases hx)
          · refine ct_nn (fun b71 hb72 => ?_)
            refine ct_cV (st := [cz_r r59]) (cg_init (av := [cz_i x70]) S hb72 (fun _ e => mt_X20_init e) q1580 (Or.inl q1578) rfl q1579 q151 nh_HeldCoats_Days__init___I_V (by decide) (by decide) (Nat.le_of_ble_eq_true rfl) rfl dX19_act_109) (fun h73 => ?_)
            exact ct_aret S rfl (Or.inl ⟨_, rfl⟩) dX19_act_112
    · refine ct_icmp_ge (tgt := 85) S dX19_act_78 (by decide) ?_ ?_
      · refine ct_iconst (v := 0) S dX19_act_85 kI_0 ?_
        exact Hj74 0 h19
      · refine ct_iconst (v := 1) S dX19_act_81 kI_1 ?_
        refine ct_goto (tgt := 86) S dX19_act_82 (by decide) ?_
        exact Hj74 1 h19
  · refine ct_if_ne (tgt := 68) S dX19_act_12 (by decide) ?_ ?_
    · exact ct_sub [3, 2, 1, 0] rfl (Hj75 (-1) (-1) h7)
    · refine ct_aload_n (k := 3) S dX19_act_15 rfl rfl ?_
      refine ct_aload_n (k := 3) S dX19_act_16 rfl rfl ?_
      refine ct_rc (fun b76 ci77 V78 hb79 hc80 hi81 => ?_)
      refine ct_cI (st := [cz_r l0]) (cg_up (owner := "HeldCoats$Reader") (av := []) S hb79 hc80 hi81 (fun _ e => mt_X6_isName e) q828 q1563 q1564 (Or.inl q825) ⟨by decide, by decide⟩ q827 q124 nh_HeldCoats_BookReader_isName___Z se_HeldCoats_BookReader_isName___Z_HeldCoats_Reader (by decide) (by decide) (Nat.le_of_ble_eq_true rfl) rfl dX19_act_17) (fun x83 h82 => ?_)
      refine ct_iconst (v := 1) S dX19_act_20 kI_1 ?_
      refine ct_rc (fun b84 ci85 V86 hb87 hc88 hi89 => ?_)
      refine ct_xV (st := []) (cg_up (owner := "HeldCoats$Reader") (av := [cz_i x83, cz_i 1]) S hb87 hc88 hi89 (fun _ e => mt_X6_need e) q750 q1566 q1567 (Or.inl q747) ⟨by decide, by decide⟩ q749 q124 nh_HeldCoats_BookReader_need__ZI_V se_HeldCoats_BookReader_need__ZI_V_HeldCoats_Reader (by decide) (by decide) (Nat.le_of_ble_eq_true rfl) rfl dX19_act_21) (fun q91 h92 => ?_) (fun h90 => ?_)
      · exact ct_out S (fun x hx => by cases hx)
      · refine ct_aload_n (k := 3) S dX19_act_24 rfl rfl ?_
        refine ct_aload_n (k := 3) S dX19_act_25 rfl rfl ?_
        refine ct_getR S fw_X19_20 dX19_act_26 (fun r93 => ?_)
        refine ct_getR S fw_X19_56 dX19_act_29 (fun r94 => ?_)
        refine ct_rc (fun b95 ci96 V97 hb98 hc99 hi100 => ?_)
        refine ct_cI (st := []) (cg_up (owner := "HeldCoats$Reader") (av := [cz_r r94]) S hb98 hc99 hi100 (fun _ e => mt_X6_find e) q908 q1569 q1570 (Or.inl q905) ⟨by decide, by decide⟩ q907 q124 nh_HeldCoats_BookReader_find__Ljava_util_ArrayList__I se_HeldCoats_BookReader_find__Ljava_util_ArrayList__I_HeldCoats_Reader (by decide) (by decide) (Nat.le_of_ble_eq_true rfl) rfl dX19_act_32) (fun x102 h101 => ?_)
        refine ct_istore_n (L' := [(2, cz_i x102), (3, cz_i (-1)), (1, cz_i x8), (0, cz_r l0)]) S dX19_act_35 rfl (by decide) rfl ?_
        refine ct_aload_n (k := 3) S dX19_act_36 rfl rfl ?_
        refine ct_aload_n (k := 3) S dX19_act_37 rfl rfl ?_
        refine ct_getR S fw_X19_20 dX19_act_38 (fun r103 => ?_)
        refine ct_getR S fw_X19_65 dX19_act_41 (fun r104 => ?_)
        refine ct_rc (fun b105 ci106 V107 hb108 hc109 hi110 => ?_)
        refine ct_cI (st := []) (cg_up (owner := "HeldCoats$Reader") (av := [cz_r r104]) S hb108 hc109 hi110 (fun _ e => mt_X6_find e) q908 q1569 q1570 (Or.inl q905) ⟨by decide, by decide⟩ q907 q124 nh_HeldCoats_BookReader_find__Ljava_util_ArrayList__I se_HeldCoats_BookReader_find__Ljava_util_ArrayList__I_HeldCoats_Reader (by decide) (by decide) (Nat.le_of_ble_eq_true rfl) rfl dX19_act_44) (fun x112 h111 => ?_)
        refine ct_istore_n (L' := [(3, cz_i x112), (2, cz_i x102), (1, cz_i x8), (0, cz_r l0)]) S dX19_act_47 rfl (by decide) rfl ?_
        refine ct_aload_n (k := 3) S dX19_act_48 rfl rfl ?_
        refine ct_iload_n (k := 1) S dX19_act_49 rfl rfl ?_
        refine ct_iconst (v := (-1)) S dX19_act_50 kI_m1 ?_
        refine ct_jnP (fun j124 => ∀ (v113 : Int32) (h114 : cz_H), cz_T K D 11 h0 oh 4 (j124 v113 h114) h114 64 [(0, cz_r l0), (1, cz_i x8), (2, cz_i x102), (3, cz_i x112)] [cz_i v113, cz_r l0]) (fun v113 h114 => ?_) (fun j124 Hj124 => ?_)
        · refine ct_iconst (v := 3) S dX19_act_64 kI_3 ?_
          refine ct_rc (fun b115 ci116 V117 hb118 hc119 hi120 => ?_)
          refine ct_xV (st := []) (cg_up (owner := "HeldCoats$Reader") (av := [cz_i v113, cz_i 3]) S hb118 hc119 hi120 (fun _ e => mt_X6_need e) q750 q1566 q1567 (Or.inl q747) ⟨by decide, by decide⟩ q749 q124 nh_HeldCoats_BookReader_need__ZI_V se_HeldCoats_BookReader_need__ZI_V_HeldCoats_Reader (by decide) (by decide) (Nat.le_of_ble_eq_true rfl) rfl dX19_act_65) (fun q122 h123 => ?_) (fun h121 => ?_)
          · exact ct_out S (fun x hx => by cases hx)
          · exact Hj75 x102 x112 h121
        · refine ct_jnP (fun j126 => ∀ (h125 : cz_H), cz_T K D 11 h0 oh 4 (j126 h125) h125 59 [(0, cz_r l0), (1, cz_i x8), (2, cz_i x102), (3, cz_i x112)] [cz_r l0]) (fun h125 => ?_) (fun j126 Hj126 => ?_)
          · refine ct_iconst (v := 1) S dX19_act_59 kI_1 ?_
            refine ct_goto (tgt := 64) S dX19_act_60 (by decide) ?_
            exact Hj124 1 h125
          · refine ct_icmp_ne (tgt := 59) S dX19_act_51 (by decide) ?_ ?_
            · exact ct_sub [3, 2, 1, 0] rfl (Hj126 h111)
            · refine ct_iload_n (k := 0) S dX19_act_54 rfl rfl ?_
              refine ct_iconst (v := (-1)) S dX19_act_55 kI_m1 ?_
              refine ct_icmp_eq (tgt := 63) S dX19_act_56 (by decide) ?_ ?_
              · refine ct_iconst (v := 0) S dX19_act_63 kI_0 ?_
                exact ct_sub [3, 2, 1, 0] rfl (Hj124 0 h111)
              · exact ct_sub [3, 2, 1, 0] rfl (Hj126 h111)
theorem mt_X19_act {l : Launch} {D : cz_D} {l0 : Option Nat} {h : cz_H} {oh : cz_O × cz_H} (hz : fn_X19_act l0 h = some oh) : cz_M l D yX19_act (ws_ yX19_act cX19_act 4 ((Option.some (Jvm.ClassFile.FieldType.object "HeldCoats$Act")))) 11 [cz_r l0] h oh := cz_met (plainFor_of_name (by decide)) (Nat.le_of_ble_eq_true rfl) hz (fun K hl S => wk_X19_act S)
/-! HeldCoats$Reader.end()V -/
def dkwX6_end_0 : List UInt8 := [42, 42, 180, 0, 38, 7, 160, 0, 7, 4, 167, 0, 4, 3, 4, 182, 0, 87, 42, 182, 0, 99, 177]
abbrev dktX6_end_0 : List UInt8 := dkwX6_end_0 ++ []
theorem dksX6_end_0 : cX6_end.data.toList.drop 0 = dktX6_end_0 := by decide +kernel
theorem dX6_end_0 : decode cX6_end 0 = .ok (.aload_n 0, 1) := dk_42 (dk_at dksX6_end_0 0 rfl rfl)
theorem dX6_end_1 : decode cX6_end 1 = .ok (.aload_n 0, 1) := dk_42 (dk_at dksX6_end_0 1 rfl rfl)
theorem dX6_end_2 : decode cX6_end 2 = .ok (.getfield 38, 3) := dk_180 0 38 (dk_at dksX6_end_0 2 rfl rfl)
theorem dX6_end_5 : decode cX6_end 5 = .ok (.iconst 4, 1) := dk_7 (dk_at dksX6_end_0 5 rfl rfl)
theorem dX6_end_6 : decode cX6_end 6 = .ok (.if_icmp .ne 7, 3) := dk_160 0 7 (dk_at dksX6_end_0 6 rfl rfl)
theorem dX6_end_9 : decode cX6_end 9 = .ok (.iconst 1, 1) := dk_4 (dk_at dksX6_end_0 9 rfl rfl)
theorem dX6_end_10 : decode cX6_end 10 = .ok (.goto 4, 3) := dk_167 0 4 (dk_at dksX6_end_0 10 rfl rfl)
theorem dX6_end_13 : decode cX6_end 13 = .ok (.iconst 0, 1) := dk_3 (dk_at dksX6_end_0 13 rfl rfl)
theorem dX6_end_14 : decode cX6_end 14 = .ok (.iconst 1, 1) := dk_4 (dk_at dksX6_end_0 14 rfl rfl)
theorem dX6_end_15 : decode cX6_end 15 = .ok (.invokevirtual 87, 3) := dk_182 0 87 (dk_at dksX6_end_0 15 rfl rfl)
theorem dX6_end_18 : decode cX6_end 18 = .ok (.aload_n 0, 1) := dk_42 (dk_at dksX6_end_0 18 rfl rfl)
theorem dX6_end_19 : decode cX6_end 19 = .ok (.invokevirtual 99, 3) := dk_182 0 99 (dk_at dksX6_end_0 19 rfl rfl)
theorem dX6_end_22 : decode cX6_end 22 = .ok (.return_, 1) := dk_177 (dk_at dksX6_end_0 22 rfl rfl)
set_option maxHeartbeats 4000000 in
set_option maxRecDepth 100000 in
noncomputable def fn_X6_end (l0 : Option Nat) (h : cz_H) : cz_Z := cz_getI h l0 [(6, 4), (16, 4), (18, 4)] (fun x1 => (if x1 = 4 then cz_rc h l0 [6, 16, 18] (cz_xV (fn_X6_need l0 1 1 h) (fun q25 h26 => cz_thr q25 h26) (fun h24 => cz_rc h24 l0 [6, 16, 18] (cz_cV (fn_X6_go l0 h24) (fun h33 => some (.inl none, h33))))) else cz_rc h l0 [6, 16, 18] (cz_xV (fn_X6_need l0 0 1 h) (fun q9 h10 => cz_thr q9 h10) (fun h8 => cz_rc h8 l0 [6, 16, 18] (cz_cV (fn_X6_go l0 h8) (fun h17 => some (.inl none, h17)))))))
set_option maxHeartbeats 4000000 in
set_option maxRecDepth 100000 in
theorem wk_X6_end {K : cz_K} {D : cz_D} {h0 : cz_H} {oh : cz_O × cz_H} {l0 : Option Nat} {h : cz_H} (S : cz_S K D h0 cX6_end 1 "HeldCoats$Reader" ((Option.none : Option Jvm.ClassFile.FieldType)) "end" ([])) : cz_T K D 9 h0 oh 1 (fn_X6_end l0 h) h 0 [(0, cz_r l0)] [] := by
  unfold fn_X6_end
  refine ct_aload_n (k := 0) S dX6_end_0 rfl rfl ?_
  refine ct_aload_n (k := 0) S dX6_end_1 rfl rfl ?_
  refine ct_getI S fw_X6_38 dX6_end_2 (fun x1 => ?_)
  refine ct_iconst (v := 4) S dX6_end_5 kI_4 ?_
  refine ct_icmp_ne (tgt := 13) S dX6_end_6 (by decide) ?_ ?_
  · refine ct_iconst (v := 0) S dX6_end_13 kI_0 ?_
    refine ct_iconst (v := 1) S dX6_end_14 kI_1 ?_
    refine ct_rc (fun b2 ci3 V4 hb5 hc6 hi7 => ?_)
    refine ct_xV (st := []) (cg_virtual (av := [cz_i 0, cz_i 1]) S hb5 hc6 hi7 (fun _ e => mt_X6_need e) md_X6_need q927 q749 se_HeldCoats_Reader_need__ZI_V_HeldCoats_Reader (by decide) (Nat.le_of_ble_eq_true rfl) rfl dX6_end_15) (fun q9 h10 => ?_) (fun h8 => ?_)
    · exact ct_out S (fun x hx => by cases hx)
    · refine ct_aload_n (k := 0) S dX6_end_18 rfl rfl ?_
      refine ct_rc (fun b11 ci12 V13 hb14 hc15 hi16 => ?_)
      refine ct_cV (st := []) (cg_virtual (av := []) S hb14 hc15 hi16 (fun _ e => mt_X6_go e) md_X6_go q931 q520 se_HeldCoats_Reader_go___V_HeldCoats_Reader (by decide) (Nat.le_of_ble_eq_true rfl) rfl dX6_end_19) (fun h17 => ?_)
      exact ct_vret S rfl dX6_end_22
  · refine ct_iconst (v := 1) S dX6_end_9 kI_1 ?_
    refine ct_goto (tgt := 14) S dX6_end_10 (by decide) ?_
    refine ct_iconst (v := 1) S dX6_end_14 kI_1 ?_
    refine ct_rc (fun b18 ci19 V20 hb21 hc22 hi23 => ?_)
    refine ct_xV (st := []) (cg_virtual (av := [cz_i 1, cz_i 1]) S hb21 hc22 hi23 (fun _ e => mt_X6_need e) md_X6_need q927 q749 se_HeldCoats_Reader_need__ZI_V_HeldCoats_Reader (by decide) (Nat.le_of_ble_eq_true rfl) rfl dX6_end_15) (fun q25 h26 => ?_) (fun h24 => ?_)
    · exact ct_out S (fun x hx => by cases hx)
    · refine ct_aload_n (k := 0) S dX6_end_18 rfl rfl ?_
      refine ct_rc (fun b27 ci28 V29 hb30 hc31 hi32 => ?_)
      refine ct_cV (st := []) (cg_virtual (av := []) S hb30 hc31 hi32 (fun _ e => mt_X6_go e) md_X6_go q931 q520 se_HeldCoats_Reader_go___V_HeldCoats_Reader (by decide) (Nat.le_of_ble_eq_true rfl) rfl dX6_end_19) (fun h33 => ?_)
      exact ct_vret S rfl dX6_end_22
theorem mt_X6_end {l : Launch} {D : cz_D} {l0 : Option Nat} {h : cz_H} {oh : cz_O × cz_H} (hz : fn_X6_end l0 h = some oh) : cz_M l D yX6_end (ws_ yX6_end cX6_end 1 ((Option.none : Option Jvm.ClassFile.FieldType))) 9 [cz_r l0] h oh := cz_met (plainFor_of_name (by decide)) (Nat.le_of_ble_eq_true rfl) hz (fun K hl S => wk_X6_end S)
/-! HeldCoats$BookReader.read()Ljava/util/ArrayList; -/
def dkwX19_read_1 : List UInt8 := [182, 0, 39, 167, 255, 233, 42, 180, 0, 14, 176]
abbrev dktX19_read_1 : List UInt8 := dkwX19_read_1 ++ []
def dkwX19_read_0 : List UInt8 := [42, 182, 0, 24, 42, 180, 0, 27, 153, 0, 22, 42, 180, 0, 14, 42, 182, 0, 31, 182, 0, 35, 87, 42]
abbrev dktX19_read_0 : List UInt8 := dkwX19_read_0 ++ dktX19_read_1
theorem dksX19_read_0 : cX19_read.data.toList.drop 0 = dktX19_read_0 := by decide +kernel
theorem dksX19_read_1 : cX19_read.data.toList.drop 24 = dktX19_read_1 := dk_seg dksX19_read_0 24 rfl rfl
theorem dX19_read_0 : decode cX19_read 0 = .ok (.aload_n 0, 1) := dk_42 (dk_at dksX19_read_0 0 rfl rfl)
theorem dX19_read_1 : decode cX19_read 1 = .ok (.invokevirtual 24, 3) := dk_182 0 24 (dk_at dksX19_read_0 1 rfl rfl)
theorem dX19_read_4 : decode cX19_read 4 = .ok (.aload_n 0, 1) := dk_42 (dk_at dksX19_read_0 4 rfl rfl)
theorem dX19_read_5 : decode cX19_read 5 = .ok (.getfield 27, 3) := dk_180 0 27 (dk_at dksX19_read_0 5 rfl rfl)
theorem dX19_read_8 : decode cX19_read 8 = .ok (.ifCond .eq 22, 3) := dk_153 0 22 (dk_at dksX19_read_0 8 rfl rfl)
theorem dX19_read_11 : decode cX19_read 11 = .ok (.aload_n 0, 1) := dk_42 (dk_at dksX19_read_0 11 rfl rfl)
theorem dX19_read_12 : decode cX19_read 12 = .ok (.getfield 14, 3) := dk_180 0 14 (dk_at dksX19_read_0 12 rfl rfl)
theorem dX19_read_15 : decode cX19_read 15 = .ok (.aload_n 0, 1) := dk_42 (dk_at dksX19_read_0 15 rfl rfl)
theorem dX19_read_16 : decode cX19_read 16 = .ok (.invokevirtual 31, 3) := dk_182 0 31 (dk_at dksX19_read_0 16 rfl rfl)
theorem dX19_read_19 : decode cX19_read 19 = .ok (.invokevirtual 35, 3) := dk_182 0 35 (dk_at dksX19_read_0 19 rfl rfl)
theorem dX19_read_22 : decode cX19_read 22 = .ok (.pop, 1) := dk_87 (dk_at dksX19_read_0 22 rfl rfl)
theorem dX19_read_23 : decode cX19_read 23 = .ok (.aload_n 0, 1) := dk_42 (dk_at dksX19_read_0 23 rfl rfl)
theorem dX19_read_24 : decode cX19_read 24 = .ok (.invokevirtual 39, 3) := dk_182 0 39 (dk_at dksX19_read_1 0 rfl rfl)
theorem dX19_read_27 : decode cX19_read 27 = .ok (.goto (-23), 3) := dk_167 255 233 (dk_at dksX19_read_1 3 rfl rfl)
theorem dX19_read_30 : decode cX19_read 30 = .ok (.aload_n 0, 1) := dk_42 (dk_at dksX19_read_1 6 rfl rfl)
theorem dX19_read_31 : decode cX19_read 31 = .ok (.getfield 14, 3) := dk_180 0 14 (dk_at dksX19_read_1 7 rfl rfl)
theorem dX19_read_34 : decode cX19_read 34 = .ok (.areturn, 1) := dk_176 (dk_at dksX19_read_1 10 rfl rfl)
theorem fw_X19_27 : cz_FW "HeldCoats$BookReader" 27 [(16, 4)] "I" := ⟨"HeldCoats$BookReader", "kind", Or.inl q476, List.forall_mem_cons.mpr ⟨⟨RX19, TX19, 11, rfl, by decide, rfl, rfl, Or.inr q477⟩, fun _ h => absurd h List.not_mem_nil⟩, by decide⟩
theorem se_HeldCoats_BookReader_act___LHeldCoats_Act__HeldCoats_BookReader : ∀ c ∈ ([16] : List Nat), ∃ q : vw_C, cz_cl[c]? = some q ∧ Cond.selects q.1 (⟨"HeldCoats$BookReader", "act", "()LHeldCoats$Act;"⟩ : MethodName) (⟨"HeldCoats$BookReader", "act", "()LHeldCoats$Act;"⟩ : MethodName) ∈ lw_all := List.forall_mem_cons.mpr ⟨⟨_, cz_cl16, qs34⟩, fun _ h => absurd h List.not_mem_nil⟩
theorem md_X19_act : cz_md yX19_act 4 (ws_ yX19_act cX19_act 4 ((Option.some (Jvm.ClassFile.FieldType.object "HeldCoats$Act")))) 0 := ⟨cz_ws_code q1558, q150, ⟨by decide, by decide, by decide +kernel⟩, by decide⟩
theorem se_java_util_ArrayList_add__Ljava_lang_Object__Z_java_util_ArrayList : ∀ c ∈ ([2] : List Nat), ∃ q : vw_C, cz_cl[c]? = some q ∧ Cond.selects q.1 (⟨"java/util/ArrayList", "add", "(Ljava/lang/Object;)Z"⟩ : MethodName) (⟨"java/util/ArrayList", "add", "(Ljava/lang/Object;)Z"⟩ : MethodName) ∈ lw_all := List.forall_mem_cons.mpr ⟨⟨_, cz_cl2, q952⟩, fun _ h => absurd h List.not_mem_nil⟩
theorem md_J2_add : cz_md yJ2_add 2 (ws_ yJ2_add cJ2_add 2 ((Option.some Jvm.ClassFile.FieldType.boolean))) 1 := ⟨cz_ws_code q953, q117, ⟨by decide, by decide, by decide +kernel⟩, by decide⟩
theorem se_HeldCoats_BookReader_end___V_HeldCoats_Reader : ∀ c ∈ ([16] : List Nat), ∃ q : vw_C, cz_cl[c]? = some q ∧ Cond.selects q.1 (⟨"HeldCoats$BookReader", "end", "()V"⟩ : MethodName) (⟨"HeldCoats$Reader", "end", "()V"⟩ : MethodName) ∈ lw_all := List.forall_mem_cons.mpr ⟨⟨_, cz_cl16, q1612⟩, fun _ h => absurd h List.not_mem_nil⟩
theorem nh_HeldCoats_BookReader_end___V : cz_nh ⟨"HeldCoats$BookReader", "end", "()V"⟩ 0 := ⟨by decide, by decide, by decide +kernel⟩
set_option maxHeartbeats 4000000 in
set_option maxRecDepth 100000 in
noncomputable def fn_X19_read_4 (l0 : Option Nat) (k0 : cz_H → cz_Z) : Nat → cz_H → cz_Z
  | 0, _ => none
  | n + 1, h => cz_getI h l0 [(16, 4)] (fun x8 => (if x8 = 0 then k0 h else cz_getR h l0 [(16, 10)] (fun r9 => cz_rc h l0 [16] (cz_xR (fn_X19_act l0 h) (fun q17 h18 => cz_thr q17 h18) (fun r19 h16 => cz_rc h16 r9 [2] (cz_cI (fn_J2_add r9 r19 h16) (fun x27 h26 => cz_rc h26 l0 [16] (cz_xV (fn_X6_end l0 h26) (fun q35 h36 => cz_thr q35 h36) (fun h34 => fn_X19_read_4 l0 k0 n h34)))))))))
set_option maxHeartbeats 4000000 in
set_option maxRecDepth 100000 in
theorem wk_X19_read_4 {K : cz_K} {D : cz_D} {h0 : cz_H} {oh : cz_O × cz_H} {l0 : Option Nat} {k0 : cz_H → cz_Z} (S : cz_S K D h0 cX19_read 1 "HeldCoats$BookReader" ((Option.some (Jvm.ClassFile.FieldType.object "java/util/ArrayList"))) "read" ([])) (hk0 : ∀ (h : cz_H), cz_T K D 12 h0 oh 1 (k0 h) h 30 [(0, cz_r l0)] []) : ∀ (n : Nat) (h : cz_H), cz_T K D 12 h0 oh 1 (fn_X19_read_4 l0 k0 n h) h 4 [(0, cz_r l0)] [] := by
  intro n
  induction n with
  | zero => intros; exact ct_none
  | succ n ih =>
    intro h
    rw [fn_X19_read_4]
    refine ct_aload_n (k := 0) S dX19_read_4 rfl rfl ?_
    refine ct_getI S fw_X19_27 dX19_read_5 (fun x8 => ?_)
    refine ct_if_eq (tgt := 30) S dX19_read_8 (by decide) ?_ ?_
    · exact hk0 h
    · refine ct_aload_n (k := 0) S dX19_read_11 rfl rfl ?_
      refine ct_getR S fw_X19_14 dX19_read_12 (fun r9 => ?_)
      refine ct_aload_n (k := 0) S dX19_read_15 rfl rfl ?_
      refine ct_rc (fun b10 ci11 V12 hb13 hc14 hi15 => ?_)
      refine ct_xR (st := [cz_r r9]) (cg_virtual (av := []) S hb13 hc14 hi15 (fun _ e => mt_X19_act e) md_X19_act q1555 q1557 se_HeldCoats_BookReader_act___LHeldCoats_Act__HeldCoats_BookReader (by decide) (Nat.le_of_ble_eq_true rfl) rfl dX19_read_16) (fun q17 h18 => ?_) (fun r19 h16 => ?_)
      · exact ct_out S (fun x hx => by cases hx)
      · refine ct_rc (fun b20 ci21 V22 hb23 hc24 hi25 => ?_)
        refine ct_cI (st := []) (cg_virtual (av := [cz_r r19]) S hb23 hc24 hi25 (fun _ e => mt_J2_add e) md_J2_add q1609 q951 se_java_util_ArrayList_add__Ljava_lang_Object__Z_java_util_ArrayList (by decide) (Nat.le_of_ble_eq_true rfl) rfl dX19_read_19) (fun x27 h26 => ?_)
        refine ct_pop S dX19_read_22 rfl ?_
        refine ct_aload_n (k := 0) S dX19_read_23 rfl rfl ?_
        refine ct_rc (fun b28 ci29 V30 hb31 hc32 hi33 => ?_)
        refine ct_xV (st := []) (cg_up (owner := "HeldCoats$Reader") (av := []) S hb31 hc32 hi33 (fun _ e => mt_X6_end e) q1073 q1610 q1611 (Or.inl q1070) ⟨by decide, by decide⟩ q1072 q124 nh_HeldCoats_BookReader_end___V se_HeldCoats_BookReader_end___V_HeldCoats_Reader (by decide) (by decide) (Nat.le_of_ble_eq_true rfl) rfl dX19_read_24) (fun q35 h36 => ?_) (fun h34 => ?_)
        · exact ct_out S (fun x hx => by cases hx)
        · refine ct_goto (tgt := 4) S dX19_read_27 (by decide) ?_
          exact ih h34
set_option maxHeartbeats 4000000 in
set_option maxRecDepth 100000 in
noncomputable def fn_X19_read (l0 : Option Nat) (h : cz_H) : cz_Z := cz_rc h l0 [16] (cz_cV (fn_X6_go l0 h) (fun h7 => fn_X19_read_4 l0 (fun (h37 : cz_H) => cz_getR h37 l0 [(16, 10)] (fun r38 => some (.inl (some (cz_r r38)), h37))) 1000 h7))
set_option maxHeartbeats 4000000 in
set_option maxRecDepth 100000 in
theorem wk_X19_read {K : cz_K} {D : cz_D} {h0 : cz_H} {oh : cz_O × cz_H} {l0 : Option Nat} {h : cz_H} (S : cz_S K D h0 cX19_read 1 "HeldCoats$BookReader" ((Option.some (Jvm.ClassFile.FieldType.object "java/util/ArrayList"))) "read" ([])) : cz_T K D 12 h0 oh 1 (fn_X19_read l0 h) h 0 [(0, cz_r l0)] [] := by
  unfold fn_X19_read
  refine ct_aload_n (k := 0) S dX19_read_0 rfl rfl ?_
  refine ct_rc (fun b1 ci2 V3 hb4 hc5 hi6 => ?_)
  refine ct_cV (st := []) (cg_up (owner := "HeldCoats$Reader") (av := []) S hb4 hc5 hi6 (fun _ e => mt_X6_go e) q521 q1552 q1553 (Or.inl q518) ⟨by decide, by decide⟩ q520 q124 nh_HeldCoats_BookReader_go___V se_HeldCoats_BookReader_go___V_HeldCoats_Reader (by decide) (by decide) (Nat.le_of_ble_eq_true rfl) rfl dX19_read_1) (fun h7 => ?_)
  refine ct_sub [0] (L' := [(0, cz_r l0)]) rfl (wk_X19_read_4 S ?_ 1000 h7)
  · intro h37
    refine ct_aload_n (k := 0) S dX19_read_30 rfl rfl ?_
    refine ct_getR S fw_X19_14 dX19_read_31 (fun r38 => ?_)
    exact ct_aret S rfl (Or.inl ⟨_, rfl⟩) dX19_read_34
theorem mt_X19_read {l : Launch} {D : cz_D} {l0 : Option Nat} {h : cz_H} {oh : cz_O × cz_H} (hz : fn_X19_read l0 h = some oh) : cz_M l D yX19_read (ws_ yX19_read cX19_read 1 ((Option.some (Jvm.ClassFile.FieldType.object "java/util/ArrayList")))) 12 [cz_r l0] h oh := cz_met (plainFor_of_name (by decide)) (Nat.le_of_ble_eq_true rfl) hz (fun K hl S => wk_X19_read S)
/-! HeldCoats$Reign.lay(II)V -/
def dkwX3_lay_0 : List UInt8 := [42, 180, 0, 9, 27, 16, 10, 28, 96, 79, 42, 180, 0, 21, 27, 42, 180, 0, 37, 79, 177]
abbrev dktX3_lay_0 : List UInt8 := dkwX3_lay_0 ++ []
theorem dksX3_lay_0 : cX3_lay.data.toList.drop 0 = dktX3_lay_0 := by decide +kernel
theorem dX3_lay_0 : decode cX3_lay 0 = .ok (.aload_n 0, 1) := dk_42 (dk_at dksX3_lay_0 0 rfl rfl)
theorem dX3_lay_1 : decode cX3_lay 1 = .ok (.getfield 9, 3) := dk_180 0 9 (dk_at dksX3_lay_0 1 rfl rfl)
theorem dX3_lay_4 : decode cX3_lay 4 = .ok (.iload_n 1, 1) := dk_27 (dk_at dksX3_lay_0 4 rfl rfl)
theorem dX3_lay_5 : decode cX3_lay 5 = .ok (.bipush 10, 2) := dk_16 10 (dk_at dksX3_lay_0 5 rfl rfl)
theorem dX3_lay_7 : decode cX3_lay 7 = .ok (.iload_n 2, 1) := dk_28 (dk_at dksX3_lay_0 7 rfl rfl)
theorem dX3_lay_8 : decode cX3_lay 8 = .ok (.iadd, 1) := dk_96 (dk_at dksX3_lay_0 8 rfl rfl)
theorem dX3_lay_9 : decode cX3_lay 9 = .ok (.iastore, 1) := dk_79 (dk_at dksX3_lay_0 9 rfl rfl)
theorem dX3_lay_10 : decode cX3_lay 10 = .ok (.aload_n 0, 1) := dk_42 (dk_at dksX3_lay_0 10 rfl rfl)
theorem dX3_lay_11 : decode cX3_lay 11 = .ok (.getfield 21, 3) := dk_180 0 21 (dk_at dksX3_lay_0 11 rfl rfl)
theorem dX3_lay_14 : decode cX3_lay 14 = .ok (.iload_n 1, 1) := dk_27 (dk_at dksX3_lay_0 14 rfl rfl)
theorem dX3_lay_15 : decode cX3_lay 15 = .ok (.aload_n 0, 1) := dk_42 (dk_at dksX3_lay_0 15 rfl rfl)
theorem dX3_lay_16 : decode cX3_lay 16 = .ok (.getfield 37, 3) := dk_180 0 37 (dk_at dksX3_lay_0 16 rfl rfl)
theorem dX3_lay_19 : decode cX3_lay 19 = .ok (.iastore, 1) := dk_79 (dk_at dksX3_lay_0 19 rfl rfl)
theorem dX3_lay_20 : decode cX3_lay 20 = .ok (.return_, 1) := dk_177 (dk_at dksX3_lay_0 20 rfl rfl)
set_option maxHeartbeats 4000000 in
set_option maxRecDepth 100000 in
noncomputable def fn_X3_lay (l0 : Option Nat) (l1 : Int32) (l2 : Int32) (h : cz_H) : cz_Z := cz_getR h l0 [(3, 6)] (fun r1 => cz_iast h r1 l1 ((10 : Int32) + l2) (fun h2 => cz_getR h2 l0 [(3, 9)] (fun r3 => cz_getI h2 l0 [(3, 1)] (fun x4 => cz_iast h2 r3 l1 x4 (fun h5 => some (.inl none, h5))))))
set_option maxHeartbeats 4000000 in
set_option maxRecDepth 100000 in
theorem wk_X3_lay {K : cz_K} {D : cz_D} {h0 : cz_H} {oh : cz_O × cz_H} {l0 : Option Nat} {l1 : Int32} {l2 : Int32} {h : cz_H} (S : cz_S K D h0 cX3_lay 3 "HeldCoats$Reign" ((Option.none : Option Jvm.ClassFile.FieldType)) "lay" ([])) : cz_T K D 2 h0 oh 3 (fn_X3_lay l0 l1 l2 h) h 0 [(0, cz_r l0), (1, cz_i l1), (2, cz_i l2)] [] := by
  unfold fn_X3_lay
  refine ct_aload_n (k := 0) S dX3_lay_0 rfl rfl ?_
  refine ct_getR S fw_X3_9 dX3_lay_1 (fun r1 => ?_)
  refine ct_iload_n (k := 1) S dX3_lay_4 rfl rfl ?_
  refine ct_bipush (v := 10) S dX3_lay_5 kB_10 ?_
  refine ct_iload_n (k := 2) S dX3_lay_7 rfl rfl ?_
  refine ct_iadd S dX3_lay_8 ?_
  refine ct_iast S dX3_lay_9 (fun h2 => ?_)
  refine ct_aload_n (k := 0) S dX3_lay_10 rfl rfl ?_
  refine ct_getR S fw_X3_21 dX3_lay_11 (fun r3 => ?_)
  refine ct_iload_n (k := 1) S dX3_lay_14 rfl rfl ?_
  refine ct_aload_n (k := 0) S dX3_lay_15 rfl rfl ?_
  refine ct_getI S fw_X3_37 dX3_lay_16 (fun x4 => ?_)
  refine ct_iast S dX3_lay_19 (fun h5 => ?_)
  exact ct_vret S rfl dX3_lay_20
theorem mt_X3_lay {l : Launch} {D : cz_D} {l0 : Option Nat} {l1 : Int32} {l2 : Int32} {h : cz_H} {oh : cz_O × cz_H} (hz : fn_X3_lay l0 l1 l2 h = some oh) : cz_M l D yX3_lay (ws_ yX3_lay cX3_lay 3 ((Option.none : Option Jvm.ClassFile.FieldType))) 2 [cz_r l0, cz_i l1, cz_i l2] h oh := cz_met (plainFor_of_name (by decide)) (Nat.le_of_ble_eq_true rfl) hz (fun K hl S => wk_X3_lay S)
/-! HeldCoats$Reign.isWorn(I)Z -/
def dkwX3_isWorn_0 : List UInt8 := [42, 180, 0, 9, 27, 46, 16, 10, 162, 0, 7, 4, 167, 0, 4, 3, 172]
abbrev dktX3_isWorn_0 : List UInt8 := dkwX3_isWorn_0 ++ []
theorem dksX3_isWorn_0 : cX3_isWorn.data.toList.drop 0 = dktX3_isWorn_0 := by decide +kernel
theorem dX3_isWorn_0 : decode cX3_isWorn 0 = .ok (.aload_n 0, 1) := dk_42 (dk_at dksX3_isWorn_0 0 rfl rfl)
theorem dX3_isWorn_1 : decode cX3_isWorn 1 = .ok (.getfield 9, 3) := dk_180 0 9 (dk_at dksX3_isWorn_0 1 rfl rfl)
theorem dX3_isWorn_4 : decode cX3_isWorn 4 = .ok (.iload_n 1, 1) := dk_27 (dk_at dksX3_isWorn_0 4 rfl rfl)
theorem dX3_isWorn_5 : decode cX3_isWorn 5 = .ok (.iaload, 1) := dk_46 (dk_at dksX3_isWorn_0 5 rfl rfl)
theorem dX3_isWorn_6 : decode cX3_isWorn 6 = .ok (.bipush 10, 2) := dk_16 10 (dk_at dksX3_isWorn_0 6 rfl rfl)
theorem dX3_isWorn_8 : decode cX3_isWorn 8 = .ok (.if_icmp .ge 7, 3) := dk_162 0 7 (dk_at dksX3_isWorn_0 8 rfl rfl)
theorem dX3_isWorn_11 : decode cX3_isWorn 11 = .ok (.iconst 1, 1) := dk_4 (dk_at dksX3_isWorn_0 11 rfl rfl)
theorem dX3_isWorn_12 : decode cX3_isWorn 12 = .ok (.goto 4, 3) := dk_167 0 4 (dk_at dksX3_isWorn_0 12 rfl rfl)
theorem dX3_isWorn_15 : decode cX3_isWorn 15 = .ok (.iconst 0, 1) := dk_3 (dk_at dksX3_isWorn_0 15 rfl rfl)
theorem dX3_isWorn_16 : decode cX3_isWorn 16 = .ok (.ireturn, 1) := dk_172 (dk_at dksX3_isWorn_0 16 rfl rfl)
set_option maxHeartbeats 4000000 in
set_option maxRecDepth 100000 in
noncomputable def fn_X3_isWorn (l0 : Option Nat) (l1 : Int32) (h : cz_H) : cz_Z := cz_getR h l0 [(3, 6)] (fun r1 => cz_iald h r1 l1 (fun x2 => (if (10 : Int32) ≤ x2 then some (.inl (some (cz_i 0)), h) else some (.inl (some (cz_i 1)), h))))
set_option maxHeartbeats 4000000 in
set_option maxRecDepth 100000 in
theorem wk_X3_isWorn {K : cz_K} {D : cz_D} {h0 : cz_H} {oh : cz_O × cz_H} {l0 : Option Nat} {l1 : Int32} {h : cz_H} (S : cz_S K D h0 cX3_isWorn 2 "HeldCoats$Reign" ((Option.some Jvm.ClassFile.FieldType.boolean)) "isWorn" ([])) : cz_T K D 2 h0 oh 2 (fn_X3_isWorn l0 l1 h) h 0 [(0, cz_r l0), (1, cz_i l1)] [] := by
  unfold fn_X3_isWorn
  refine ct_aload_n (k := 0) S dX3_isWorn_0 rfl rfl ?_
  refine ct_getR S fw_X3_9 dX3_isWorn_1 (fun r1 => ?_)
  refine ct_iload_n (k := 1) S dX3_isWorn_4 rfl rfl ?_
  refine ct_iald S dX3_isWorn_5 (fun x2 => ?_)
  refine ct_bipush (v := 10) S dX3_isWorn_6 kB_10 ?_
  refine ct_icmp_ge (tgt := 15) S dX3_isWorn_8 (by decide) ?_ ?_
  · refine ct_iconst (v := 0) S dX3_isWorn_15 kI_0 ?_
    exact ct_zr (ty := .boolean) S rfl rfl dX3_isWorn_16
  · refine ct_iconst (v := 1) S dX3_isWorn_11 kI_1 ?_
    refine ct_goto (tgt := 16) S dX3_isWorn_12 (by decide) ?_
    exact ct_zr (ty := .boolean) S rfl rfl dX3_isWorn_16
theorem mt_X3_isWorn {l : Launch} {D : cz_D} {l0 : Option Nat} {l1 : Int32} {h : cz_H} {oh : cz_O × cz_H} (hz : fn_X3_isWorn l0 l1 h = some oh) : cz_M l D yX3_isWorn (ws_ yX3_isWorn cX3_isWorn 2 ((Option.some Jvm.ClassFile.FieldType.boolean))) 2 [cz_r l0, cz_i l1] h oh := cz_met (plainFor_of_name (by decide)) (Nat.le_of_ble_eq_true rfl) hz (fun K hl S => wk_X3_isWorn S)
/-! HeldCoats$Reign.whyLay(II)I -/
def dkwX3_whyLay_1 : List UInt8 := [167, 0, 4, 3, 172]
abbrev dktX3_whyLay_1 : List UInt8 := dkwX3_whyLay_1 ++ []
def dkwX3_whyLay_0 : List UInt8 := [42, 27, 182, 0, 141, 154, 0, 7, 4, 167, 0, 17, 42, 28, 182, 0, 100, 2, 159, 0, 7, 5]
abbrev dktX3_whyLay_0 : List UInt8 := dkwX3_whyLay_0 ++ dktX3_whyLay_1
theorem dksX3_whyLay_0 : cX3_whyLay.data.toList.drop 0 = dktX3_whyLay_0 := by decide +kernel
theorem dksX3_whyLay_1 : cX3_whyLay.data.toList.drop 22 = dktX3_whyLay_1 := dk_seg dksX3_whyLay_0 22 rfl rfl
theorem dX3_whyLay_0 : decode cX3_whyLay 0 = .ok (.aload_n 0, 1) := dk_42 (dk_at dksX3_whyLay_0 0 rfl rfl)
theorem dX3_whyLay_1 : decode cX3_whyLay 1 = .ok (.iload_n 1, 1) := dk_27 (dk_at dksX3_whyLay_0 1 rfl rfl)
theorem dX3_whyLay_2 : decode cX3_whyLay 2 = .ok (.invokevirtual 141, 3) := dk_182 0 141 (dk_at dksX3_whyLay_0 2 rfl rfl)
theorem dX3_whyLay_5 : decode cX3_whyLay 5 = .ok (.ifCond .ne 7, 3) := dk_154 0 7 (dk_at dksX3_whyLay_0 5 rfl rfl)
theorem dX3_whyLay_8 : decode cX3_whyLay 8 = .ok (.iconst 1, 1) := dk_4 (dk_at dksX3_whyLay_0 8 rfl rfl)
theorem dX3_whyLay_9 : decode cX3_whyLay 9 = .ok (.goto 17, 3) := dk_167 0 17 (dk_at dksX3_whyLay_0 9 rfl rfl)
theorem dX3_whyLay_12 : decode cX3_whyLay 12 = .ok (.aload_n 0, 1) := dk_42 (dk_at dksX3_whyLay_0 12 rfl rfl)
theorem dX3_whyLay_13 : decode cX3_whyLay 13 = .ok (.iload_n 2, 1) := dk_28 (dk_at dksX3_whyLay_0 13 rfl rfl)
theorem dX3_whyLay_14 : decode cX3_whyLay 14 = .ok (.invokevirtual 100, 3) := dk_182 0 100 (dk_at dksX3_whyLay_0 14 rfl rfl)
theorem dX3_whyLay_17 : decode cX3_whyLay 17 = .ok (.iconst (-1), 1) := dk_2 (dk_at dksX3_whyLay_0 17 rfl rfl)
theorem dX3_whyLay_18 : decode cX3_whyLay 18 = .ok (.if_icmp .eq 7, 3) := dk_159 0 7 (dk_at dksX3_whyLay_0 18 rfl rfl)
theorem dX3_whyLay_21 : decode cX3_whyLay 21 = .ok (.iconst 2, 1) := dk_5 (dk_at dksX3_whyLay_0 21 rfl rfl)
theorem dX3_whyLay_22 : decode cX3_whyLay 22 = .ok (.goto 4, 3) := dk_167 0 4 (dk_at dksX3_whyLay_1 0 rfl rfl)
theorem dX3_whyLay_25 : decode cX3_whyLay 25 = .ok (.iconst 0, 1) := dk_3 (dk_at dksX3_whyLay_1 3 rfl rfl)
theorem dX3_whyLay_26 : decode cX3_whyLay 26 = .ok (.ireturn, 1) := dk_172 (dk_at dksX3_whyLay_1 4 rfl rfl)
theorem se_HeldCoats_Reign_isWorn__I_Z_HeldCoats_Reign : ∀ c ∈ ([3] : List Nat), ∃ q : vw_C, cz_cl[c]? = some q ∧ Cond.selects q.1 (⟨"HeldCoats$Reign", "isWorn", "(I)Z"⟩ : MethodName) (⟨"HeldCoats$Reign", "isWorn", "(I)Z"⟩ : MethodName) ∈ lw_all := List.forall_mem_cons.mpr ⟨⟨_, cz_cl3, q1268⟩, fun _ h => absurd h List.not_mem_nil⟩
theorem md_X3_isWorn : cz_md yX3_isWorn 2 (ws_ yX3_isWorn cX3_isWorn 2 ((Option.some Jvm.ClassFile.FieldType.boolean))) 1 := ⟨cz_ws_code q1269, q118, ⟨by decide, by decide, by decide +kernel⟩, by decide⟩
set_option maxHeartbeats 4000000 in
set_option maxRecDepth 100000 in
noncomputable def fn_X3_whyLay (l0 : Option Nat) (l1 : Int32) (l2 : Int32) (h : cz_H) : cz_Z := cz_rc h l0 [3] (cz_cI (fn_X3_isWorn l0 l1 h) (fun x8 h7 => (if x8 = 0 then some (.inl (some (cz_i 1)), h7) else cz_rc h7 l0 [3] (cz_cI (fn_X3_on l0 l2 h7) (fun x16 h15 => (if x16 = (-1) then some (.inl (some (cz_i 0)), h15) else some (.inl (some (cz_i 2)), h15)))))))
set_option maxHeartbeats 4000000 in
set_option maxRecDepth 100000 in
theorem wk_X3_whyLay {K : cz_K} {D : cz_D} {h0 : cz_H} {oh : cz_O × cz_H} {l0 : Option Nat} {l1 : Int32} {l2 : Int32} {h : cz_H} (S : cz_S K D h0 cX3_whyLay 3 "HeldCoats$Reign" ((Option.some Jvm.ClassFile.FieldType.int)) "whyLay" ([])) : cz_T K D 5 h0 oh 3 (fn_X3_whyLay l0 l1 l2 h) h 0 [(0, cz_r l0), (1, cz_i l1), (2, cz_i l2)] [] := by
  unfold fn_X3_whyLay
  refine ct_aload_n (k := 0) S dX3_whyLay_0 rfl rfl ?_
  refine ct_iload_n (k := 1) S dX3_whyLay_1 rfl rfl ?_
  refine ct_rc (fun b1 ci2 V3 hb4 hc5 hi6 => ?_)
  refine ct_cI (st := []) (cg_virtual (av := [cz_i l1]) S hb4 hc5 hi6 (fun _ e => mt_X3_isWorn e) md_X3_isWorn q1266 q1267 se_HeldCoats_Reign_isWorn__I_Z_HeldCoats_Reign (by decide) (Nat.le_of_ble_eq_true rfl) rfl dX3_whyLay_2) (fun x8 h7 => ?_)
  refine ct_if_ne (tgt := 12) S dX3_whyLay_5 (by decide) ?_ ?_
  · refine ct_aload_n (k := 0) S dX3_whyLay_12 rfl rfl ?_
    refine ct_iload_n (k := 2) S dX3_whyLay_13 rfl rfl ?_
    refine ct_rc (fun b9 ci10 V11 hb12 hc13 hi14 => ?_)
    refine ct_cI (st := []) (cg_virtual (av := [cz_i l2]) S hb12 hc13 hi14 (fun _ e => mt_X3_on e) md_X3_on q1114 q1095 se_HeldCoats_Reign_on__I_I_HeldCoats_Reign (by decide) (Nat.le_of_ble_eq_true rfl) rfl dX3_whyLay_14) (fun x16 h15 => ?_)
    refine ct_iconst (v := (-1)) S dX3_whyLay_17 kI_m1 ?_
    refine ct_icmp_eq (tgt := 25) S dX3_whyLay_18 (by decide) ?_ ?_
    · refine ct_iconst (v := 0) S dX3_whyLay_25 kI_0 ?_
      exact ct_iret S rfl dX3_whyLay_26
    · refine ct_iconst (v := 2) S dX3_whyLay_21 kI_2 ?_
      refine ct_goto (tgt := 26) S dX3_whyLay_22 (by decide) ?_
      exact ct_iret S rfl dX3_whyLay_26
  · refine ct_iconst (v := 1) S dX3_whyLay_8 kI_1 ?_
    refine ct_goto (tgt := 26) S dX3_whyLay_9 (by decide) ?_
    exact ct_iret S rfl dX3_whyLay_26
theorem mt_X3_whyLay {l : Launch} {D : cz_D} {l0 : Option Nat} {l1 : Int32} {l2 : Int32} {h : cz_H} {oh : cz_O × cz_H} (hz : fn_X3_whyLay l0 l1 l2 h = some oh) : cz_M l D yX3_whyLay (ws_ yX3_whyLay cX3_whyLay 3 ((Option.some Jvm.ClassFile.FieldType.int))) 5 [cz_r l0, cz_i l1, cz_i l2] h oh := cz_met (plainFor_of_name (by decide)) (Nat.le_of_ble_eq_true rfl) hz (fun K hl S => wk_X3_whyLay S)
/-! HeldCoats$Lies.does(LHeldCoats$Reign;)I -/
def dkwX15_does_1 : List UInt8 := [180, 0, 13, 182, 0, 22, 28, 172]
abbrev dktX15_does_1 : List UInt8 := dkwX15_does_1 ++ []
def dkwX15_does_0 : List UInt8 := [43, 42, 180, 0, 7, 42, 180, 0, 13, 182, 0, 16, 61, 28, 154, 0, 15, 43, 42, 180, 0, 7, 42]
abbrev dktX15_does_0 : List UInt8 := dkwX15_does_0 ++ dktX15_does_1
theorem dksX15_does_0 : cX15_does.data.toList.drop 0 = dktX15_does_0 := by decide +kernel
theorem dksX15_does_1 : cX15_does.data.toList.drop 23 = dktX15_does_1 := dk_seg dksX15_does_0 23 rfl rfl
theorem dX15_does_0 : decode cX15_does 0 = .ok (.aload_n 1, 1) := dk_43 (dk_at dksX15_does_0 0 rfl rfl)
theorem dX15_does_1 : decode cX15_does 1 = .ok (.aload_n 0, 1) := dk_42 (dk_at dksX15_does_0 1 rfl rfl)
theorem dX15_does_2 : decode cX15_does 2 = .ok (.getfield 7, 3) := dk_180 0 7 (dk_at dksX15_does_0 2 rfl rfl)
theorem dX15_does_5 : decode cX15_does 5 = .ok (.aload_n 0, 1) := dk_42 (dk_at dksX15_does_0 5 rfl rfl)
theorem dX15_does_6 : decode cX15_does 6 = .ok (.getfield 13, 3) := dk_180 0 13 (dk_at dksX15_does_0 6 rfl rfl)
theorem dX15_does_9 : decode cX15_does 9 = .ok (.invokevirtual 16, 3) := dk_182 0 16 (dk_at dksX15_does_0 9 rfl rfl)
theorem dX15_does_12 : decode cX15_does 12 = .ok (.istore_n 2, 1) := dk_61 (dk_at dksX15_does_0 12 rfl rfl)
theorem dX15_does_13 : decode cX15_does 13 = .ok (.iload_n 2, 1) := dk_28 (dk_at dksX15_does_0 13 rfl rfl)
theorem dX15_does_14 : decode cX15_does 14 = .ok (.ifCond .ne 15, 3) := dk_154 0 15 (dk_at dksX15_does_0 14 rfl rfl)
theorem dX15_does_17 : decode cX15_does 17 = .ok (.aload_n 1, 1) := dk_43 (dk_at dksX15_does_0 17 rfl rfl)
theorem dX15_does_18 : decode cX15_does 18 = .ok (.aload_n 0, 1) := dk_42 (dk_at dksX15_does_0 18 rfl rfl)
theorem dX15_does_19 : decode cX15_does 19 = .ok (.getfield 7, 3) := dk_180 0 7 (dk_at dksX15_does_0 19 rfl rfl)
theorem dX15_does_22 : decode cX15_does 22 = .ok (.aload_n 0, 1) := dk_42 (dk_at dksX15_does_0 22 rfl rfl)
theorem dX15_does_23 : decode cX15_does 23 = .ok (.getfield 13, 3) := dk_180 0 13 (dk_at dksX15_does_1 0 rfl rfl)
theorem dX15_does_26 : decode cX15_does 26 = .ok (.invokevirtual 22, 3) := dk_182 0 22 (dk_at dksX15_does_1 3 rfl rfl)
theorem dX15_does_29 : decode cX15_does 29 = .ok (.iload_n 2, 1) := dk_28 (dk_at dksX15_does_1 6 rfl rfl)
theorem dX15_does_30 : decode cX15_does 30 = .ok (.ireturn, 1) := dk_172 (dk_at dksX15_does_1 7 rfl rfl)
theorem fw_X15_7 : cz_FW "HeldCoats$Lies" 7 [(12, 1)] "I" := ⟨"HeldCoats$Lies", "coat", Or.inl q1175, List.forall_mem_cons.mpr ⟨⟨RX15, TX15, 2, rfl, by decide, rfl, rfl, Or.inr q1176⟩, fun _ h => absurd h List.not_mem_nil⟩, by decide⟩
theorem fw_X15_13 : cz_FW "HeldCoats$Lies" 13 [(12, 0)] "I" := ⟨"HeldCoats$Lies", "other", Or.inl q1168, List.forall_mem_cons.mpr ⟨⟨RX15, TX15, 2, rfl, by decide, rfl, rfl, Or.inr q1169⟩, fun _ h => absurd h List.not_mem_nil⟩, by decide⟩
theorem se_HeldCoats_Reign_whyLay__II_I_HeldCoats_Reign : ∀ c ∈ ([3] : List Nat), ∃ q : vw_C, cz_cl[c]? = some q ∧ Cond.selects q.1 (⟨"HeldCoats$Reign", "whyLay", "(II)I"⟩ : MethodName) (⟨"HeldCoats$Reign", "whyLay", "(II)I"⟩ : MethodName) ∈ lw_all := List.forall_mem_cons.mpr ⟨⟨_, cz_cl3, q1264⟩, fun _ h => absurd h List.not_mem_nil⟩
theorem md_X3_whyLay : cz_md yX3_whyLay 3 (ws_ yX3_whyLay cX3_whyLay 3 ((Option.some Jvm.ClassFile.FieldType.int))) 2 := ⟨cz_ws_code q1265, q118, ⟨by decide, by decide, by decide +kernel⟩, by decide⟩
theorem se_HeldCoats_Reign_lay__II_V_HeldCoats_Reign : ∀ c ∈ ([3] : List Nat), ∃ q : vw_C, cz_cl[c]? = some q ∧ Cond.selects q.1 (⟨"HeldCoats$Reign", "lay", "(II)V"⟩ : MethodName) (⟨"HeldCoats$Reign", "lay", "(II)V"⟩ : MethodName) ∈ lw_all := List.forall_mem_cons.mpr ⟨⟨_, cz_cl3, q1272⟩, fun _ h => absurd h List.not_mem_nil⟩
theorem md_X3_lay : cz_md yX3_lay 3 (ws_ yX3_lay cX3_lay 3 ((Option.none : Option Jvm.ClassFile.FieldType))) 2 := ⟨cz_ws_code q1273, q118, ⟨by decide, by decide, by decide +kernel⟩, by decide⟩
set_option maxHeartbeats 4000000 in
set_option maxRecDepth 100000 in
noncomputable def fn_X15_does (l0 : Option Nat) (l1 : Option Nat) (h : cz_H) : cz_Z := cz_getI h l0 [(12, 1)] (fun x1 => cz_getI h l0 [(12, 0)] (fun x2 => cz_rc h l1 [3] (cz_cI (fn_X3_whyLay l1 x1 x2 h) (fun x10 h9 => (if x10 = 0 then cz_getI h9 l0 [(12, 1)] (fun x11 => cz_getI h9 l0 [(12, 0)] (fun x12 => cz_rc h9 l1 [3] (cz_cV (fn_X3_lay l1 x11 x12 h9) (fun h19 => some (.inl (some (cz_i x10)), h19))))) else some (.inl (some (cz_i x10)), h9))))))
set_option maxHeartbeats 4000000 in
set_option maxRecDepth 100000 in
theorem wk_X15_does {K : cz_K} {D : cz_D} {h0 : cz_H} {oh : cz_O × cz_H} {l0 : Option Nat} {l1 : Option Nat} {h : cz_H} (S : cz_S K D h0 cX15_does 3 "HeldCoats$Lies" ((Option.some Jvm.ClassFile.FieldType.int)) "does" ([])) : cz_T K D 11 h0 oh 3 (fn_X15_does l0 l1 h) h 0 [(0, cz_r l0), (1, cz_r l1)] [] := by
  unfold fn_X15_does
  refine ct_aload_n (k := 1) S dX15_does_0 rfl rfl ?_
  refine ct_aload_n (k := 0) S dX15_does_1 rfl rfl ?_
  refine ct_getI S fw_X15_7 dX15_does_2 (fun x1 => ?_)
  refine ct_aload_n (k := 0) S dX15_does_5 rfl rfl ?_
  refine ct_getI S fw_X15_13 dX15_does_6 (fun x2 => ?_)
  refine ct_rc (fun b3 ci4 V5 hb6 hc7 hi8 => ?_)
  refine ct_cI (st := []) (cg_virtual (av := [cz_i x1, cz_i x2]) S hb6 hc7 hi8 (fun _ e => mt_X3_whyLay e) md_X3_whyLay q1262 q1263 se_HeldCoats_Reign_whyLay__II_I_HeldCoats_Reign (by decide) (Nat.le_of_ble_eq_true rfl) rfl dX15_does_9) (fun x10 h9 => ?_)
  refine ct_istore_n (L' := [(2, cz_i x10), (0, cz_r l0), (1, cz_r l1)]) S dX15_does_12 rfl (by decide) rfl ?_
  refine ct_iload_n (k := 0) S dX15_does_13 rfl rfl ?_
  refine ct_if_ne (tgt := 29) S dX15_does_14 (by decide) ?_ ?_
  · refine ct_iload_n (k := 0) S dX15_does_29 rfl rfl ?_
    exact ct_iret S rfl dX15_does_30
  · refine ct_aload_n (k := 2) S dX15_does_17 rfl rfl ?_
    refine ct_aload_n (k := 1) S dX15_does_18 rfl rfl ?_
    refine ct_getI S fw_X15_7 dX15_does_19 (fun x11 => ?_)
    refine ct_aload_n (k := 1) S dX15_does_22 rfl rfl ?_
    refine ct_getI S fw_X15_13 dX15_does_23 (fun x12 => ?_)
    refine ct_rc (fun b13 ci14 V15 hb16 hc17 hi18 => ?_)
    refine ct_cV (st := []) (cg_virtual (av := [cz_i x11, cz_i x12]) S hb16 hc17 hi18 (fun _ e => mt_X3_lay e) md_X3_lay q1270 q1271 se_HeldCoats_Reign_lay__II_V_HeldCoats_Reign (by decide) (Nat.le_of_ble_eq_true rfl) rfl dX15_does_26) (fun h19 => ?_)
    refine ct_iload_n (k := 0) S dX15_does_29 rfl rfl ?_
    exact ct_iret S rfl dX15_does_30
theorem mt_X15_does {l : Launch} {D : cz_D} {l0 : Option Nat} {l1 : Option Nat} {h : cz_H} {oh : cz_O × cz_H} (hz : fn_X15_does l0 l1 h = some oh) : cz_M l D yX15_does (ws_ yX15_does cX15_does 3 ((Option.some Jvm.ClassFile.FieldType.int))) 11 [cz_r l0, cz_r l1] h oh := cz_met (plainFor_of_name (by decide)) (Nat.le_of_ble_eq_true rfl) hz (fun K hl S => wk_X15_does S)
/-! HeldCoats$Act.told(II)I -/
def dkwX12_told_0 : List UInt8 := [26, 154, 0, 7, 3, 167, 0, 6, 27, 26, 96, 172]
abbrev dktX12_told_0 : List UInt8 := dkwX12_told_0 ++ []
theorem dksX12_told_0 : cX12_told.data.toList.drop 0 = dktX12_told_0 := by decide +kernel
theorem dX12_told_0 : decode cX12_told 0 = .ok (.iload_n 0, 1) := dk_26 (dk_at dksX12_told_0 0 rfl rfl)
theorem dX12_told_1 : decode cX12_told 1 = .ok (.ifCond .ne 7, 3) := dk_154 0 7 (dk_at dksX12_told_0 1 rfl rfl)
theorem dX12_told_4 : decode cX12_told 4 = .ok (.iconst 0, 1) := dk_3 (dk_at dksX12_told_0 4 rfl rfl)
theorem dX12_told_5 : decode cX12_told 5 = .ok (.goto 6, 3) := dk_167 0 6 (dk_at dksX12_told_0 5 rfl rfl)
theorem dX12_told_8 : decode cX12_told 8 = .ok (.iload_n 1, 1) := dk_27 (dk_at dksX12_told_0 8 rfl rfl)
theorem dX12_told_9 : decode cX12_told 9 = .ok (.iload_n 0, 1) := dk_26 (dk_at dksX12_told_0 9 rfl rfl)
theorem dX12_told_10 : decode cX12_told 10 = .ok (.iadd, 1) := dk_96 (dk_at dksX12_told_0 10 rfl rfl)
theorem dX12_told_11 : decode cX12_told 11 = .ok (.ireturn, 1) := dk_172 (dk_at dksX12_told_0 11 rfl rfl)
set_option maxHeartbeats 4000000 in
set_option maxRecDepth 100000 in
noncomputable def fn_X12_told (l0 : Int32) (l1 : Int32) (h : cz_H) : cz_Z := (if l0 = 0 then some (.inl (some (cz_i 0)), h) else some (.inl (some (cz_i (l1 + l0))), h))
set_option maxHeartbeats 4000000 in
set_option maxRecDepth 100000 in
theorem wk_X12_told {K : cz_K} {D : cz_D} {h0 : cz_H} {oh : cz_O × cz_H} {l0 : Int32} {l1 : Int32} {h : cz_H} (S : cz_S K D h0 cX12_told 2 "HeldCoats$Act" ((Option.some Jvm.ClassFile.FieldType.int)) "told" ([])) : cz_T K D 2 h0 oh 2 (fn_X12_told l0 l1 h) h 0 [(0, cz_i l0), (1, cz_i l1)] [] := by
  unfold fn_X12_told
  refine ct_iload_n (k := 0) S dX12_told_0 rfl rfl ?_
  refine ct_if_ne (tgt := 8) S dX12_told_1 (by decide) ?_ ?_
  · refine ct_iload_n (k := 1) S dX12_told_8 rfl rfl ?_
    refine ct_iload_n (k := 0) S dX12_told_9 rfl rfl ?_
    refine ct_iadd S dX12_told_10 ?_
    exact ct_iret S rfl dX12_told_11
  · refine ct_iconst (v := 0) S dX12_told_4 kI_0 ?_
    refine ct_goto (tgt := 11) S dX12_told_5 (by decide) ?_
    exact ct_iret S rfl dX12_told_11
theorem mt_X12_told {l : Launch} {D : cz_D} {l0 : Int32} {l1 : Int32} {h : cz_H} {oh : cz_O × cz_H} (hz : fn_X12_told l0 l1 h = some oh) : cz_M l D yX12_told (ws_ yX12_told cX12_told 2 ((Option.some Jvm.ClassFile.FieldType.int))) 2 [cz_i l0, cz_i l1] h oh := cz_met (plainFor_of_name (by decide)) (Nat.le_of_ble_eq_true rfl) hz (fun K hl S => wk_X12_told S)
/-! HeldCoats$Reign.whyLend(II)I -/
def dkwX3_whyLend_1 : List UInt8 := [160, 0, 7, 5, 167, 0, 4, 3, 172]
abbrev dktX3_whyLend_1 : List UInt8 := dkwX3_whyLend_1 ++ []
def dkwX3_whyLend_0 : List UInt8 := [42, 180, 0, 9, 27, 46, 16, 30, 160, 0, 7, 4, 167, 0, 18, 42, 180, 0, 18, 27, 46, 28]
abbrev dktX3_whyLend_0 : List UInt8 := dkwX3_whyLend_0 ++ dktX3_whyLend_1
theorem dksX3_whyLend_0 : cX3_whyLend.data.toList.drop 0 = dktX3_whyLend_0 := by decide +kernel
theorem dksX3_whyLend_1 : cX3_whyLend.data.toList.drop 22 = dktX3_whyLend_1 := dk_seg dksX3_whyLend_0 22 rfl rfl
theorem dX3_whyLend_0 : decode cX3_whyLend 0 = .ok (.aload_n 0, 1) := dk_42 (dk_at dksX3_whyLend_0 0 rfl rfl)
theorem dX3_whyLend_1 : decode cX3_whyLend 1 = .ok (.getfield 9, 3) := dk_180 0 9 (dk_at dksX3_whyLend_0 1 rfl rfl)
theorem dX3_whyLend_4 : decode cX3_whyLend 4 = .ok (.iload_n 1, 1) := dk_27 (dk_at dksX3_whyLend_0 4 rfl rfl)
theorem dX3_whyLend_5 : decode cX3_whyLend 5 = .ok (.iaload, 1) := dk_46 (dk_at dksX3_whyLend_0 5 rfl rfl)
theorem dX3_whyLend_6 : decode cX3_whyLend 6 = .ok (.bipush 30, 2) := dk_16 30 (dk_at dksX3_whyLend_0 6 rfl rfl)
theorem dX3_whyLend_8 : decode cX3_whyLend 8 = .ok (.if_icmp .ne 7, 3) := dk_160 0 7 (dk_at dksX3_whyLend_0 8 rfl rfl)
theorem dX3_whyLend_11 : decode cX3_whyLend 11 = .ok (.iconst 1, 1) := dk_4 (dk_at dksX3_whyLend_0 11 rfl rfl)
theorem dX3_whyLend_12 : decode cX3_whyLend 12 = .ok (.goto 18, 3) := dk_167 0 18 (dk_at dksX3_whyLend_0 12 rfl rfl)
theorem dX3_whyLend_15 : decode cX3_whyLend 15 = .ok (.aload_n 0, 1) := dk_42 (dk_at dksX3_whyLend_0 15 rfl rfl)
theorem dX3_whyLend_16 : decode cX3_whyLend 16 = .ok (.getfield 18, 3) := dk_180 0 18 (dk_at dksX3_whyLend_0 16 rfl rfl)
theorem dX3_whyLend_19 : decode cX3_whyLend 19 = .ok (.iload_n 1, 1) := dk_27 (dk_at dksX3_whyLend_0 19 rfl rfl)
theorem dX3_whyLend_20 : decode cX3_whyLend 20 = .ok (.iaload, 1) := dk_46 (dk_at dksX3_whyLend_0 20 rfl rfl)
theorem dX3_whyLend_21 : decode cX3_whyLend 21 = .ok (.iload_n 2, 1) := dk_28 (dk_at dksX3_whyLend_0 21 rfl rfl)
theorem dX3_whyLend_22 : decode cX3_whyLend 22 = .ok (.if_icmp .ne 7, 3) := dk_160 0 7 (dk_at dksX3_whyLend_1 0 rfl rfl)
theorem dX3_whyLend_25 : decode cX3_whyLend 25 = .ok (.iconst 2, 1) := dk_5 (dk_at dksX3_whyLend_1 3 rfl rfl)
theorem dX3_whyLend_26 : decode cX3_whyLend 26 = .ok (.goto 4, 3) := dk_167 0 4 (dk_at dksX3_whyLend_1 4 rfl rfl)
theorem dX3_whyLend_29 : decode cX3_whyLend 29 = .ok (.iconst 0, 1) := dk_3 (dk_at dksX3_whyLend_1 7 rfl rfl)
theorem dX3_whyLend_30 : decode cX3_whyLend 30 = .ok (.ireturn, 1) := dk_172 (dk_at dksX3_whyLend_1 8 rfl rfl)
set_option maxHeartbeats 4000000 in
set_option maxRecDepth 100000 in
noncomputable def fn_X3_whyLend (l0 : Option Nat) (l1 : Int32) (l2 : Int32) (h : cz_H) : cz_Z := cz_getR h l0 [(3, 6)] (fun r1 => cz_iald h r1 l1 (fun x2 => (if x2 = 30 then some (.inl (some (cz_i 1)), h) else cz_getR h l0 [(3, 8)] (fun r3 => cz_iald h r3 l1 (fun x4 => (if x4 = l2 then some (.inl (some (cz_i 2)), h) else some (.inl (some (cz_i 0)), h)))))))
set_option maxHeartbeats 4000000 in
set_option maxRecDepth 100000 in
theorem wk_X3_whyLend {K : cz_K} {D : cz_D} {h0 : cz_H} {oh : cz_O × cz_H} {l0 : Option Nat} {l1 : Int32} {l2 : Int32} {h : cz_H} (S : cz_S K D h0 cX3_whyLend 3 "HeldCoats$Reign" ((Option.some Jvm.ClassFile.FieldType.int)) "whyLend" ([])) : cz_T K D 2 h0 oh 3 (fn_X3_whyLend l0 l1 l2 h) h 0 [(0, cz_r l0), (1, cz_i l1), (2, cz_i l2)] [] := by
  unfold fn_X3_whyLend
  refine ct_aload_n (k := 0) S dX3_whyLend_0 rfl rfl ?_
  refine ct_getR S fw_X3_9 dX3_whyLend_1 (fun r1 => ?_)
  refine ct_iload_n (k := 1) S dX3_whyLend_4 rfl rfl ?_
  refine ct_iald S dX3_whyLend_5 (fun x2 => ?_)
  refine ct_bipush (v := 30) S dX3_whyLend_6 kB_30 ?_
  refine ct_icmp_ne (tgt := 15) S dX3_whyLend_8 (by decide) ?_ ?_
  · refine ct_aload_n (k := 0) S dX3_whyLend_15 rfl rfl ?_
    refine ct_getR S fw_X3_18 dX3_whyLend_16 (fun r3 => ?_)
    refine ct_iload_n (k := 1) S dX3_whyLend_19 rfl rfl ?_
    refine ct_iald S dX3_whyLend_20 (fun x4 => ?_)
    refine ct_iload_n (k := 2) S dX3_whyLend_21 rfl rfl ?_
    refine ct_icmp_ne (tgt := 29) S dX3_whyLend_22 (by decide) ?_ ?_
    · refine ct_iconst (v := 0) S dX3_whyLend_29 kI_0 ?_
      exact ct_iret S rfl dX3_whyLend_30
    · refine ct_iconst (v := 2) S dX3_whyLend_25 kI_2 ?_
      refine ct_goto (tgt := 30) S dX3_whyLend_26 (by decide) ?_
      exact ct_iret S rfl dX3_whyLend_30
  · refine ct_iconst (v := 1) S dX3_whyLend_11 kI_1 ?_
    refine ct_goto (tgt := 30) S dX3_whyLend_12 (by decide) ?_
    exact ct_iret S rfl dX3_whyLend_30
theorem mt_X3_whyLend {l : Launch} {D : cz_D} {l0 : Option Nat} {l1 : Int32} {l2 : Int32} {h : cz_H} {oh : cz_O × cz_H} (hz : fn_X3_whyLend l0 l1 l2 h = some oh) : cz_M l D yX3_whyLend (ws_ yX3_whyLend cX3_whyLend 3 ((Option.some Jvm.ClassFile.FieldType.int))) 2 [cz_r l0, cz_i l1, cz_i l2] h oh := cz_met (plainFor_of_name (by decide)) (Nat.le_of_ble_eq_true rfl) hz (fun K hl S => wk_X3_whyLend S)
/-! HeldCoats$Lent.does(LHeldCoats$Reign;)I -/
def dkwX16_does_1 : List UInt8 := [180, 0, 7, 42, 180, 0, 13, 79, 28, 16, 20, 184, 0, 26, 172]
abbrev dktX16_does_1 : List UInt8 := dkwX16_does_1 ++ []
def dkwX16_does_0 : List UInt8 := [43, 42, 180, 0, 7, 42, 180, 0, 13, 182, 0, 16, 61, 28, 154, 0, 16, 43, 180, 0, 22, 42]
abbrev dktX16_does_0 : List UInt8 := dkwX16_does_0 ++ dktX16_does_1
theorem dksX16_does_0 : cX16_does.data.toList.drop 0 = dktX16_does_0 := by decide +kernel
theorem dksX16_does_1 : cX16_does.data.toList.drop 22 = dktX16_does_1 := dk_seg dksX16_does_0 22 rfl rfl
theorem dX16_does_0 : decode cX16_does 0 = .ok (.aload_n 1, 1) := dk_43 (dk_at dksX16_does_0 0 rfl rfl)
theorem dX16_does_1 : decode cX16_does 1 = .ok (.aload_n 0, 1) := dk_42 (dk_at dksX16_does_0 1 rfl rfl)
theorem dX16_does_2 : decode cX16_does 2 = .ok (.getfield 7, 3) := dk_180 0 7 (dk_at dksX16_does_0 2 rfl rfl)
theorem dX16_does_5 : decode cX16_does 5 = .ok (.aload_n 0, 1) := dk_42 (dk_at dksX16_does_0 5 rfl rfl)
theorem dX16_does_6 : decode cX16_does 6 = .ok (.getfield 13, 3) := dk_180 0 13 (dk_at dksX16_does_0 6 rfl rfl)
theorem dX16_does_9 : decode cX16_does 9 = .ok (.invokevirtual 16, 3) := dk_182 0 16 (dk_at dksX16_does_0 9 rfl rfl)
theorem dX16_does_12 : decode cX16_does 12 = .ok (.istore_n 2, 1) := dk_61 (dk_at dksX16_does_0 12 rfl rfl)
theorem dX16_does_13 : decode cX16_does 13 = .ok (.iload_n 2, 1) := dk_28 (dk_at dksX16_does_0 13 rfl rfl)
theorem dX16_does_14 : decode cX16_does 14 = .ok (.ifCond .ne 16, 3) := dk_154 0 16 (dk_at dksX16_does_0 14 rfl rfl)
theorem dX16_does_17 : decode cX16_does 17 = .ok (.aload_n 1, 1) := dk_43 (dk_at dksX16_does_0 17 rfl rfl)
theorem dX16_does_18 : decode cX16_does 18 = .ok (.getfield 22, 3) := dk_180 0 22 (dk_at dksX16_does_0 18 rfl rfl)
theorem dX16_does_21 : decode cX16_does 21 = .ok (.aload_n 0, 1) := dk_42 (dk_at dksX16_does_0 21 rfl rfl)
theorem dX16_does_22 : decode cX16_does 22 = .ok (.getfield 7, 3) := dk_180 0 7 (dk_at dksX16_does_1 0 rfl rfl)
theorem dX16_does_25 : decode cX16_does 25 = .ok (.aload_n 0, 1) := dk_42 (dk_at dksX16_does_1 3 rfl rfl)
theorem dX16_does_26 : decode cX16_does 26 = .ok (.getfield 13, 3) := dk_180 0 13 (dk_at dksX16_does_1 4 rfl rfl)
theorem dX16_does_29 : decode cX16_does 29 = .ok (.iastore, 1) := dk_79 (dk_at dksX16_does_1 7 rfl rfl)
theorem dX16_does_30 : decode cX16_does 30 = .ok (.iload_n 2, 1) := dk_28 (dk_at dksX16_does_1 8 rfl rfl)
theorem dX16_does_31 : decode cX16_does 31 = .ok (.bipush 20, 2) := dk_16 20 (dk_at dksX16_does_1 9 rfl rfl)
theorem dX16_does_33 : decode cX16_does 33 = .ok (.invokestatic 26, 3) := dk_184 0 26 (dk_at dksX16_does_1 11 rfl rfl)
theorem dX16_does_36 : decode cX16_does 36 = .ok (.ireturn, 1) := dk_172 (dk_at dksX16_does_1 14 rfl rfl)
theorem fw_X16_7 : cz_FW "HeldCoats$Lent" 7 [(14, 1)] "I" := ⟨"HeldCoats$Lent", "coat", Or.inl q1173, List.forall_mem_cons.mpr ⟨⟨RX16, TX16, 2, rfl, by decide, rfl, rfl, Or.inr q1174⟩, fun _ h => absurd h List.not_mem_nil⟩, by decide⟩
theorem fw_X16_13 : cz_FW "HeldCoats$Lent" 13 [(14, 0)] "I" := ⟨"HeldCoats$Lent", "other", Or.inl q1166, List.forall_mem_cons.mpr ⟨⟨RX16, TX16, 2, rfl, by decide, rfl, rfl, Or.inr q1167⟩, fun _ h => absurd h List.not_mem_nil⟩, by decide⟩
theorem se_HeldCoats_Reign_whyLend__II_I_HeldCoats_Reign : ∀ c ∈ ([3] : List Nat), ∃ q : vw_C, cz_cl[c]? = some q ∧ Cond.selects q.1 (⟨"HeldCoats$Reign", "whyLend", "(II)I"⟩ : MethodName) (⟨"HeldCoats$Reign", "whyLend", "(II)I"⟩ : MethodName) ∈ lw_all := List.forall_mem_cons.mpr ⟨⟨_, cz_cl3, q1253⟩, fun _ h => absurd h List.not_mem_nil⟩
theorem md_X3_whyLend : cz_md yX3_whyLend 3 (ws_ yX3_whyLend cX3_whyLend 3 ((Option.some Jvm.ClassFile.FieldType.int))) 2 := ⟨cz_ws_code q1254, q118, ⟨by decide, by decide, by decide +kernel⟩, by decide⟩
theorem md_X12_told : cz_md yX12_told 2 (ws_ yX12_told cX12_told 2 ((Option.some Jvm.ClassFile.FieldType.int))) 2 := ⟨cz_ws_code q1258, q142, ⟨by decide, by decide, by decide +kernel⟩, by decide⟩
theorem fw_X16_22 : cz_FW "HeldCoats$Lent" 22 [(3, 8)] "[I" := ⟨"HeldCoats$Reign", "user", Or.inr ⟨_, q289⟩, List.forall_mem_cons.mpr ⟨⟨RX3, TX3, 14, rfl, by decide, rfl, rfl, Or.inl rfl⟩, fun _ h => absurd h List.not_mem_nil⟩, by decide⟩
set_option maxHeartbeats 4000000 in
set_option maxRecDepth 100000 in
noncomputable def fn_X16_does (l0 : Option Nat) (l1 : Option Nat) (h : cz_H) : cz_Z := cz_getI h l0 [(14, 1)] (fun x1 => cz_getI h l0 [(14, 0)] (fun x2 => cz_rc h l1 [3] (cz_cI (fn_X3_whyLend l1 x1 x2 h) (fun x10 h9 => (if x10 = 0 then cz_getR h9 l1 [(3, 8)] (fun r13 => cz_getI h9 l0 [(14, 1)] (fun x14 => cz_getI h9 l0 [(14, 0)] (fun x15 => cz_iast h9 r13 x14 x15 (fun h16 => cz_cI (fn_X12_told x10 20 h16) (fun x18 h17 => some (.inl (some (cz_i x18)), h17)))))) else cz_cI (fn_X12_told x10 20 h9) (fun x12 h11 => some (.inl (some (cz_i x12)), h11)))))))
set_option maxHeartbeats 4000000 in
set_option maxRecDepth 100000 in
theorem wk_X16_does {K : cz_K} {D : cz_D} {h0 : cz_H} {oh : cz_O × cz_H} {l0 : Option Nat} {l1 : Option Nat} {h : cz_H} (S : cz_S K D h0 cX16_does 3 "HeldCoats$Lent" ((Option.some Jvm.ClassFile.FieldType.int)) "does" ([])) : cz_T K D 11 h0 oh 3 (fn_X16_does l0 l1 h) h 0 [(0, cz_r l0), (1, cz_r l1)] [] := by
  unfold fn_X16_does
  refine ct_aload_n (k := 1) S dX16_does_0 rfl rfl ?_
  refine ct_aload_n (k := 0) S dX16_does_1 rfl rfl ?_
  refine ct_getI S fw_X16_7 dX16_does_2 (fun x1 => ?_)
  refine ct_aload_n (k := 0) S dX16_does_5 rfl rfl ?_
  refine ct_getI S fw_X16_13 dX16_does_6 (fun x2 => ?_)
  refine ct_rc (fun b3 ci4 V5 hb6 hc7 hi8 => ?_)
  refine ct_cI (st := []) (cg_virtual (av := [cz_i x1, cz_i x2]) S hb6 hc7 hi8 (fun _ e => mt_X3_whyLend e) md_X3_whyLend q1251 q1252 se_HeldCoats_Reign_whyLend__II_I_HeldCoats_Reign (by decide) (Nat.le_of_ble_eq_true rfl) rfl dX16_does_9) (fun x10 h9 => ?_)
  refine ct_istore_n (L' := [(2, cz_i x10), (0, cz_r l0), (1, cz_r l1)]) S dX16_does_12 rfl (by decide) rfl ?_
  refine ct_iload_n (k := 0) S dX16_does_13 rfl rfl ?_
  refine ct_if_ne (tgt := 30) S dX16_does_14 (by decide) ?_ ?_
  · refine ct_iload_n (k := 0) S dX16_does_30 rfl rfl ?_
    refine ct_bipush (v := 20) S dX16_does_31 kB_20 ?_
    refine ct_cI (st := []) (cg_staticUp (owner := "HeldCoats$Act") (av := [cz_i x10, cz_i 20]) S (fun _ e => mt_X12_told e) md_X12_told q1255 q1256 q1257 rfl (by decide) (Nat.le_of_ble_eq_true rfl) rfl dX16_does_33) (fun x12 h11 => ?_)
    exact ct_iret S rfl dX16_does_36
  · refine ct_aload_n (k := 2) S dX16_does_17 rfl rfl ?_
    refine ct_getR S fw_X16_22 dX16_does_18 (fun r13 => ?_)
    refine ct_aload_n (k := 1) S dX16_does_21 rfl rfl ?_
    refine ct_getI S fw_X16_7 dX16_does_22 (fun x14 => ?_)
    refine ct_aload_n (k := 1) S dX16_does_25 rfl rfl ?_
    refine ct_getI S fw_X16_13 dX16_does_26 (fun x15 => ?_)
    refine ct_iast S dX16_does_29 (fun h16 => ?_)
    refine ct_iload_n (k := 0) S dX16_does_30 rfl rfl ?_
    refine ct_bipush (v := 20) S dX16_does_31 kB_20 ?_
    refine ct_cI (st := []) (cg_staticUp (owner := "HeldCoats$Act") (av := [cz_i x10, cz_i 20]) S (fun _ e => mt_X12_told e) md_X12_told q1255 q1256 q1257 rfl (by decide) (Nat.le_of_ble_eq_true rfl) rfl dX16_does_33) (fun x18 h17 => ?_)
    exact ct_iret S rfl dX16_does_36
theorem mt_X16_does {l : Launch} {D : cz_D} {l0 : Option Nat} {l1 : Option Nat} {h : cz_H} {oh : cz_O × cz_H} (hz : fn_X16_does l0 l1 h = some oh) : cz_M l D yX16_does (ws_ yX16_does cX16_does 3 ((Option.some Jvm.ClassFile.FieldType.int))) 11 [cz_r l0, cz_r l1] h oh := cz_met (plainFor_of_name (by decide)) (Nat.le_of_ble_eq_true rfl) hz (fun K hl S => wk_X16_does S)
/-! HeldCoats$Reign.whyKeep(I)I -/
def dkwX3_whyKeep_0 : List UInt8 := [42, 27, 182, 0, 141, 153, 0, 7, 3, 167, 0, 4, 4, 172]
abbrev dktX3_whyKeep_0 : List UInt8 := dkwX3_whyKeep_0 ++ []
theorem dksX3_whyKeep_0 : cX3_whyKeep.data.toList.drop 0 = dktX3_whyKeep_0 := by decide +kernel
theorem dX3_whyKeep_0 : decode cX3_whyKeep 0 = .ok (.aload_n 0, 1) := dk_42 (dk_at dksX3_whyKeep_0 0 rfl rfl)
theorem dX3_whyKeep_1 : decode cX3_whyKeep 1 = .ok (.iload_n 1, 1) := dk_27 (dk_at dksX3_whyKeep_0 1 rfl rfl)
theorem dX3_whyKeep_2 : decode cX3_whyKeep 2 = .ok (.invokevirtual 141, 3) := dk_182 0 141 (dk_at dksX3_whyKeep_0 2 rfl rfl)
theorem dX3_whyKeep_5 : decode cX3_whyKeep 5 = .ok (.ifCond .eq 7, 3) := dk_153 0 7 (dk_at dksX3_whyKeep_0 5 rfl rfl)
theorem dX3_whyKeep_8 : decode cX3_whyKeep 8 = .ok (.iconst 0, 1) := dk_3 (dk_at dksX3_whyKeep_0 8 rfl rfl)
theorem dX3_whyKeep_9 : decode cX3_whyKeep 9 = .ok (.goto 4, 3) := dk_167 0 4 (dk_at dksX3_whyKeep_0 9 rfl rfl)
theorem dX3_whyKeep_12 : decode cX3_whyKeep 12 = .ok (.iconst 1, 1) := dk_4 (dk_at dksX3_whyKeep_0 12 rfl rfl)
theorem dX3_whyKeep_13 : decode cX3_whyKeep 13 = .ok (.ireturn, 1) := dk_172 (dk_at dksX3_whyKeep_0 13 rfl rfl)
set_option maxHeartbeats 4000000 in
set_option maxRecDepth 100000 in
noncomputable def fn_X3_whyKeep (l0 : Option Nat) (l1 : Int32) (h : cz_H) : cz_Z := cz_rc h l0 [3] (cz_cI (fn_X3_isWorn l0 l1 h) (fun x8 h7 => (if x8 = 0 then some (.inl (some (cz_i 1)), h7) else some (.inl (some (cz_i 0)), h7))))
set_option maxHeartbeats 4000000 in
set_option maxRecDepth 100000 in
theorem wk_X3_whyKeep {K : cz_K} {D : cz_D} {h0 : cz_H} {oh : cz_O × cz_H} {l0 : Option Nat} {l1 : Int32} {h : cz_H} (S : cz_S K D h0 cX3_whyKeep 2 "HeldCoats$Reign" ((Option.some Jvm.ClassFile.FieldType.int)) "whyKeep" ([])) : cz_T K D 3 h0 oh 2 (fn_X3_whyKeep l0 l1 h) h 0 [(0, cz_r l0), (1, cz_i l1)] [] := by
  unfold fn_X3_whyKeep
  refine ct_aload_n (k := 0) S dX3_whyKeep_0 rfl rfl ?_
  refine ct_iload_n (k := 1) S dX3_whyKeep_1 rfl rfl ?_
  refine ct_rc (fun b1 ci2 V3 hb4 hc5 hi6 => ?_)
  refine ct_cI (st := []) (cg_virtual (av := [cz_i l1]) S hb4 hc5 hi6 (fun _ e => mt_X3_isWorn e) md_X3_isWorn q1266 q1267 se_HeldCoats_Reign_isWorn__I_Z_HeldCoats_Reign (by decide) (Nat.le_of_ble_eq_true rfl) rfl dX3_whyKeep_2) (fun x8 h7 => ?_)
  refine ct_if_eq (tgt := 12) S dX3_whyKeep_5 (by decide) ?_ ?_
  · refine ct_iconst (v := 1) S dX3_whyKeep_12 kI_1 ?_
    exact ct_iret S rfl dX3_whyKeep_13
  · refine ct_iconst (v := 0) S dX3_whyKeep_8 kI_0 ?_
    refine ct_goto (tgt := 13) S dX3_whyKeep_9 (by decide) ?_
    exact ct_iret S rfl dX3_whyKeep_13
theorem mt_X3_whyKeep {l : Launch} {D : cz_D} {l0 : Option Nat} {l1 : Int32} {h : cz_H} {oh : cz_O × cz_H} (hz : fn_X3_whyKeep l0 l1 h = some oh) : cz_M l D yX3_whyKeep (ws_ yX3_whyKeep cX3_whyKeep 2 ((Option.some Jvm.ClassFile.FieldType.int))) 3 [cz_r l0, cz_i l1] h oh := cz_met (plainFor_of_name (by decide)) (Nat.le_of_ble_eq_true rfl) hz (fun K hl S => wk_X3_whyKeep S)
/-! HeldCoats$Stored.does(LHeldCoats$Reign;)I -/
def dkwX17_does_1 : List UInt8 := [184, 0, 22, 172]
abbrev dktX17_does_1 : List UInt8 := dkwX17_does_1 ++ []
def dkwX17_does_0 : List UInt8 := [43, 42, 180, 0, 7, 182, 0, 13, 61, 28, 154, 0, 11, 43, 42, 180, 0, 7, 182, 0, 19, 28, 16, 30]
abbrev dktX17_does_0 : List UInt8 := dkwX17_does_0 ++ dktX17_does_1
theorem dksX17_does_0 : cX17_does.data.toList.drop 0 = dktX17_does_0 := by decide +kernel
theorem dksX17_does_1 : cX17_does.data.toList.drop 24 = dktX17_does_1 := dk_seg dksX17_does_0 24 rfl rfl
theorem dX17_does_0 : decode cX17_does 0 = .ok (.aload_n 1, 1) := dk_43 (dk_at dksX17_does_0 0 rfl rfl)
theorem dX17_does_1 : decode cX17_does 1 = .ok (.aload_n 0, 1) := dk_42 (dk_at dksX17_does_0 1 rfl rfl)
theorem dX17_does_2 : decode cX17_does 2 = .ok (.getfield 7, 3) := dk_180 0 7 (dk_at dksX17_does_0 2 rfl rfl)
theorem dX17_does_5 : decode cX17_does 5 = .ok (.invokevirtual 13, 3) := dk_182 0 13 (dk_at dksX17_does_0 5 rfl rfl)
theorem dX17_does_8 : decode cX17_does 8 = .ok (.istore_n 2, 1) := dk_61 (dk_at dksX17_does_0 8 rfl rfl)
theorem dX17_does_9 : decode cX17_does 9 = .ok (.iload_n 2, 1) := dk_28 (dk_at dksX17_does_0 9 rfl rfl)
theorem dX17_does_10 : decode cX17_does 10 = .ok (.ifCond .ne 11, 3) := dk_154 0 11 (dk_at dksX17_does_0 10 rfl rfl)
theorem dX17_does_13 : decode cX17_does 13 = .ok (.aload_n 1, 1) := dk_43 (dk_at dksX17_does_0 13 rfl rfl)
theorem dX17_does_14 : decode cX17_does 14 = .ok (.aload_n 0, 1) := dk_42 (dk_at dksX17_does_0 14 rfl rfl)
theorem dX17_does_15 : decode cX17_does 15 = .ok (.getfield 7, 3) := dk_180 0 7 (dk_at dksX17_does_0 15 rfl rfl)
theorem dX17_does_18 : decode cX17_does 18 = .ok (.invokevirtual 19, 3) := dk_182 0 19 (dk_at dksX17_does_0 18 rfl rfl)
theorem dX17_does_21 : decode cX17_does 21 = .ok (.iload_n 2, 1) := dk_28 (dk_at dksX17_does_0 21 rfl rfl)
theorem dX17_does_22 : decode cX17_does 22 = .ok (.bipush 30, 2) := dk_16 30 (dk_at dksX17_does_0 22 rfl rfl)
theorem dX17_does_24 : decode cX17_does 24 = .ok (.invokestatic 22, 3) := dk_184 0 22 (dk_at dksX17_does_1 0 rfl rfl)
theorem dX17_does_27 : decode cX17_does 27 = .ok (.ireturn, 1) := dk_172 (dk_at dksX17_does_1 3 rfl rfl)
theorem fw_X17_7 : cz_FW "HeldCoats$Stored" 7 [(15, 0)] "I" := ⟨"HeldCoats$Stored", "coat", Or.inl q1177, List.forall_mem_cons.mpr ⟨⟨RX17, TX17, 1, rfl, by decide, rfl, rfl, Or.inr q1178⟩, fun _ h => absurd h List.not_mem_nil⟩, by decide⟩
theorem se_HeldCoats_Reign_whyKeep__I_I_HeldCoats_Reign : ∀ c ∈ ([3] : List Nat), ∃ q : vw_C, cz_cl[c]? = some q ∧ Cond.selects q.1 (⟨"HeldCoats$Reign", "whyKeep", "(I)I"⟩ : MethodName) (⟨"HeldCoats$Reign", "whyKeep", "(I)I"⟩ : MethodName) ∈ lw_all := List.forall_mem_cons.mpr ⟨⟨_, cz_cl3, q1279⟩, fun _ h => absurd h List.not_mem_nil⟩
theorem md_X3_whyKeep : cz_md yX3_whyKeep 2 (ws_ yX3_whyKeep cX3_whyKeep 2 ((Option.some Jvm.ClassFile.FieldType.int))) 1 := ⟨cz_ws_code q1280, q118, ⟨by decide, by decide, by decide +kernel⟩, by decide⟩
set_option maxHeartbeats 4000000 in
set_option maxRecDepth 100000 in
noncomputable def fn_X17_does (l0 : Option Nat) (l1 : Option Nat) (h : cz_H) : cz_Z := cz_getI h l0 [(15, 0)] (fun x1 => cz_rc h l1 [3] (cz_cI (fn_X3_whyKeep l1 x1 h) (fun x9 h8 => (if x9 = 0 then cz_getI h8 l0 [(15, 0)] (fun x12 => cz_rc h8 l1 [3] (cz_cV (fn_X3_keep l1 x12 h8) (fun h19 => cz_cI (fn_X12_told x9 30 h19) (fun x21 h20 => some (.inl (some (cz_i x21)), h20))))) else cz_cI (fn_X12_told x9 30 h8) (fun x11 h10 => some (.inl (some (cz_i x11)), h10))))))
set_option maxHeartbeats 4000000 in
set_option maxRecDepth 100000 in
theorem wk_X17_does {K : cz_K} {D : cz_D} {h0 : cz_H} {oh : cz_O × cz_H} {l0 : Option Nat} {l1 : Option Nat} {h : cz_H} (S : cz_S K D h0 cX17_does 3 "HeldCoats$Stored" ((Option.some Jvm.ClassFile.FieldType.int)) "does" ([])) : cz_T K D 11 h0 oh 3 (fn_X17_does l0 l1 h) h 0 [(0, cz_r l0), (1, cz_r l1)] [] := by
  unfold fn_X17_does
  refine ct_aload_n (k := 1) S dX17_does_0 rfl rfl ?_
  refine ct_aload_n (k := 0) S dX17_does_1 rfl rfl ?_
  refine ct_getI S fw_X17_7 dX17_does_2 (fun x1 => ?_)
  refine ct_rc (fun b2 ci3 V4 hb5 hc6 hi7 => ?_)
  refine ct_cI (st := []) (cg_virtual (av := [cz_i x1]) S hb5 hc6 hi7 (fun _ e => mt_X3_whyKeep e) md_X3_whyKeep q1277 q1278 se_HeldCoats_Reign_whyKeep__I_I_HeldCoats_Reign (by decide) (Nat.le_of_ble_eq_true rfl) rfl dX17_does_5) (fun x9 h8 => ?_)
  refine ct_istore_n (L' := [(2, cz_i x9), (0, cz_r l0), (1, cz_r l1)]) S dX17_does_8 rfl (by decide) rfl ?_
  refine ct_iload_n (k := 0) S dX17_does_9 rfl rfl ?_
  refine ct_if_ne (tgt := 21) S dX17_does_10 (by decide) ?_ ?_
  · refine ct_iload_n (k := 0) S dX17_does_21 rfl rfl ?_
    refine ct_bipush (v := 30) S dX17_does_22 kB_30 ?_
    refine ct_cI (st := []) (cg_staticUp (owner := "HeldCoats$Act") (av := [cz_i x9, cz_i 30]) S (fun _ e => mt_X12_told e) md_X12_told q1282 q1283 q1257 rfl (by decide) (Nat.le_of_ble_eq_true rfl) rfl dX17_does_24) (fun x11 h10 => ?_)
    exact ct_iret S rfl dX17_does_27
  · refine ct_aload_n (k := 2) S dX17_does_13 rfl rfl ?_
    refine ct_aload_n (k := 1) S dX17_does_14 rfl rfl ?_
    refine ct_getI S fw_X17_7 dX17_does_15 (fun x12 => ?_)
    refine ct_rc (fun b13 ci14 V15 hb16 hc17 hi18 => ?_)
    refine ct_cV (st := []) (cg_virtual (av := [cz_i x12]) S hb16 hc17 hi18 (fun _ e => mt_X3_keep e) md_X3_keep q1281 q1245 se_HeldCoats_Reign_keep__I_V_HeldCoats_Reign (by decide) (Nat.le_of_ble_eq_true rfl) rfl dX17_does_18) (fun h19 => ?_)
    refine ct_iload_n (k := 0) S dX17_does_21 rfl rfl ?_
    refine ct_bipush (v := 30) S dX17_does_22 kB_30 ?_
    refine ct_cI (st := []) (cg_staticUp (owner := "HeldCoats$Act") (av := [cz_i x9, cz_i 30]) S (fun _ e => mt_X12_told e) md_X12_told q1282 q1283 q1257 rfl (by decide) (Nat.le_of_ble_eq_true rfl) rfl dX17_does_24) (fun x21 h20 => ?_)
    exact ct_iret S rfl dX17_does_27
theorem mt_X17_does {l : Launch} {D : cz_D} {l0 : Option Nat} {l1 : Option Nat} {h : cz_H} {oh : cz_O × cz_H} (hz : fn_X17_does l0 l1 h = some oh) : cz_M l D yX17_does (ws_ yX17_does cX17_does 3 ((Option.some Jvm.ClassFile.FieldType.int))) 11 [cz_r l0, cz_r l1] h oh := cz_met (plainFor_of_name (by decide)) (Nat.le_of_ble_eq_true rfl) hz (fun K hl S => wk_X17_does S)
/-! HeldCoats$Reign.leaves(I)V -/
def dkwX3_leaves_2 : List UInt8 := [42, 28, 181, 0, 50, 177]
abbrev dktX3_leaves_2 : List UInt8 := dkwX3_leaves_2 ++ []
def dkwX3_leaves_1 : List UInt8 := [167, 0, 18, 42, 180, 0, 24, 28, 42, 180, 0, 24, 29, 46, 79, 132, 2, 1, 132, 3, 1, 167, 255, 217]
abbrev dktX3_leaves_1 : List UInt8 := dkwX3_leaves_1 ++ dktX3_leaves_2
def dkwX3_leaves_0 : List UInt8 := [3, 61, 3, 62, 29, 42, 180, 0, 50, 162, 0, 37, 42, 180, 0, 24, 29, 46, 27, 160, 0, 6]
abbrev dktX3_leaves_0 : List UInt8 := dkwX3_leaves_0 ++ dktX3_leaves_1
theorem dksX3_leaves_0 : cX3_leaves.data.toList.drop 0 = dktX3_leaves_0 := by decide +kernel
theorem dksX3_leaves_1 : cX3_leaves.data.toList.drop 22 = dktX3_leaves_1 := dk_seg dksX3_leaves_0 22 rfl rfl
theorem dksX3_leaves_2 : cX3_leaves.data.toList.drop 46 = dktX3_leaves_2 := dk_seg dksX3_leaves_1 24 rfl rfl
theorem dX3_leaves_0 : decode cX3_leaves 0 = .ok (.iconst 0, 1) := dk_3 (dk_at dksX3_leaves_0 0 rfl rfl)
theorem dX3_leaves_1 : decode cX3_leaves 1 = .ok (.istore_n 2, 1) := dk_61 (dk_at dksX3_leaves_0 1 rfl rfl)
theorem dX3_leaves_2 : decode cX3_leaves 2 = .ok (.iconst 0, 1) := dk_3 (dk_at dksX3_leaves_0 2 rfl rfl)
theorem dX3_leaves_3 : decode cX3_leaves 3 = .ok (.istore_n 3, 1) := dk_62 (dk_at dksX3_leaves_0 3 rfl rfl)
theorem dX3_leaves_4 : decode cX3_leaves 4 = .ok (.iload_n 3, 1) := dk_29 (dk_at dksX3_leaves_0 4 rfl rfl)
theorem dX3_leaves_5 : decode cX3_leaves 5 = .ok (.aload_n 0, 1) := dk_42 (dk_at dksX3_leaves_0 5 rfl rfl)
theorem dX3_leaves_6 : decode cX3_leaves 6 = .ok (.getfield 50, 3) := dk_180 0 50 (dk_at dksX3_leaves_0 6 rfl rfl)
theorem dX3_leaves_9 : decode cX3_leaves 9 = .ok (.if_icmp .ge 37, 3) := dk_162 0 37 (dk_at dksX3_leaves_0 9 rfl rfl)
theorem dX3_leaves_12 : decode cX3_leaves 12 = .ok (.aload_n 0, 1) := dk_42 (dk_at dksX3_leaves_0 12 rfl rfl)
theorem dX3_leaves_13 : decode cX3_leaves 13 = .ok (.getfield 24, 3) := dk_180 0 24 (dk_at dksX3_leaves_0 13 rfl rfl)
theorem dX3_leaves_16 : decode cX3_leaves 16 = .ok (.iload_n 3, 1) := dk_29 (dk_at dksX3_leaves_0 16 rfl rfl)
theorem dX3_leaves_17 : decode cX3_leaves 17 = .ok (.iaload, 1) := dk_46 (dk_at dksX3_leaves_0 17 rfl rfl)
theorem dX3_leaves_18 : decode cX3_leaves 18 = .ok (.iload_n 1, 1) := dk_27 (dk_at dksX3_leaves_0 18 rfl rfl)
theorem dX3_leaves_19 : decode cX3_leaves 19 = .ok (.if_icmp .ne 6, 3) := dk_160 0 6 (dk_at dksX3_leaves_0 19 rfl rfl)
theorem dX3_leaves_22 : decode cX3_leaves 22 = .ok (.goto 18, 3) := dk_167 0 18 (dk_at dksX3_leaves_1 0 rfl rfl)
theorem dX3_leaves_25 : decode cX3_leaves 25 = .ok (.aload_n 0, 1) := dk_42 (dk_at dksX3_leaves_1 3 rfl rfl)
theorem dX3_leaves_26 : decode cX3_leaves 26 = .ok (.getfield 24, 3) := dk_180 0 24 (dk_at dksX3_leaves_1 4 rfl rfl)
theorem dX3_leaves_29 : decode cX3_leaves 29 = .ok (.iload_n 2, 1) := dk_28 (dk_at dksX3_leaves_1 7 rfl rfl)
theorem dX3_leaves_30 : decode cX3_leaves 30 = .ok (.aload_n 0, 1) := dk_42 (dk_at dksX3_leaves_1 8 rfl rfl)
theorem dX3_leaves_31 : decode cX3_leaves 31 = .ok (.getfield 24, 3) := dk_180 0 24 (dk_at dksX3_leaves_1 9 rfl rfl)
theorem dX3_leaves_34 : decode cX3_leaves 34 = .ok (.iload_n 3, 1) := dk_29 (dk_at dksX3_leaves_1 12 rfl rfl)
theorem dX3_leaves_35 : decode cX3_leaves 35 = .ok (.iaload, 1) := dk_46 (dk_at dksX3_leaves_1 13 rfl rfl)
theorem dX3_leaves_36 : decode cX3_leaves 36 = .ok (.iastore, 1) := dk_79 (dk_at dksX3_leaves_1 14 rfl rfl)
theorem dX3_leaves_37 : decode cX3_leaves 37 = .ok (.iinc 2 1, 3) := dk_132 2 1 (dk_at dksX3_leaves_1 15 rfl rfl)
theorem dX3_leaves_40 : decode cX3_leaves 40 = .ok (.iinc 3 1, 3) := dk_132 3 1 (dk_at dksX3_leaves_1 18 rfl rfl)
theorem dX3_leaves_43 : decode cX3_leaves 43 = .ok (.goto (-39), 3) := dk_167 255 217 (dk_at dksX3_leaves_1 21 rfl rfl)
theorem dX3_leaves_46 : decode cX3_leaves 46 = .ok (.aload_n 0, 1) := dk_42 (dk_at dksX3_leaves_2 0 rfl rfl)
theorem dX3_leaves_47 : decode cX3_leaves 47 = .ok (.iload_n 2, 1) := dk_28 (dk_at dksX3_leaves_2 1 rfl rfl)
theorem dX3_leaves_48 : decode cX3_leaves 48 = .ok (.putfield 50, 3) := dk_181 0 50 (dk_at dksX3_leaves_2 2 rfl rfl)
theorem dX3_leaves_51 : decode cX3_leaves 51 = .ok (.return_, 1) := dk_177 (dk_at dksX3_leaves_2 5 rfl rfl)
set_option maxHeartbeats 4000000 in
set_option maxRecDepth 100000 in
noncomputable def fn_X3_leaves_4 (l0 : Option Nat) (l1 : Int32) (k0 : Int32 → cz_H → cz_Z) : Nat → Int32 → Int32 → cz_H → cz_Z
  | 0, _, _, _ => none
  | n + 1, l2, l3, h => cz_getI h l0 [(3, 5)] (fun x1 => (if x1 ≤ l3 then k0 l2 h else cz_getR h l0 [(3, 10)] (fun r2 => cz_iald h r2 l3 (fun x3 => (if x3 = l1 then cz_leti (l3 + 1) (fun x10 => fn_X3_leaves_4 l0 l1 k0 n l2 x10 h) else cz_getR h l0 [(3, 10)] (fun r4 => cz_getR h l0 [(3, 10)] (fun r5 => cz_iald h r5 l3 (fun x6 => cz_iast h r4 l2 x6 (fun h7 => cz_leti (l2 + 1) (fun x8 => cz_leti (l3 + 1) (fun x9 => fn_X3_leaves_4 l0 l1 k0 n x8 x9 h7)))))))))))
set_option maxHeartbeats 4000000 in
set_option maxRecDepth 100000 in
theorem wk_X3_leaves_4 {K : cz_K} {D : cz_D} {h0 : cz_H} {oh : cz_O × cz_H} {l0 : Option Nat} {l1 : Int32} {k0 : Int32 → cz_H → cz_Z} (S : cz_S K D h0 cX3_leaves 4 "HeldCoats$Reign" ((Option.none : Option Jvm.ClassFile.FieldType)) "leaves" ([])) (hk0 : ∀ (e2 : Int32) (h : cz_H), cz_T K D 2 h0 oh 4 (k0 e2 h) h 46 [(0, cz_r l0), (2, cz_i e2)] []) : ∀ (n : Nat) (l2 : Int32) (l3 : Int32) (h : cz_H), cz_T K D 2 h0 oh 4 (fn_X3_leaves_4 l0 l1 k0 n l2 l3 h) h 4 [(0, cz_r l0), (1, cz_i l1), (2, cz_i l2), (3, cz_i l3)] [] := by
  intro n
  induction n with
  | zero => intros; exact ct_none
  | succ n ih =>
    intro l2 l3 h
    rw [fn_X3_leaves_4]
    refine ct_iload_n (k := 3) S dX3_leaves_4 rfl rfl ?_
    refine ct_aload_n (k := 0) S dX3_leaves_5 rfl rfl ?_
    refine ct_getI S fw_X3_50 dX3_leaves_6 (fun x1 => ?_)
    refine ct_icmp_ge (tgt := 46) S dX3_leaves_9 (by decide) ?_ ?_
    · exact ct_sub [0, 2] rfl (hk0 l2 h)
    · refine ct_aload_n (k := 0) S dX3_leaves_12 rfl rfl ?_
      refine ct_getR S fw_X3_24 dX3_leaves_13 (fun r2 => ?_)
      refine ct_iload_n (k := 3) S dX3_leaves_16 rfl rfl ?_
      refine ct_iald S dX3_leaves_17 (fun x3 => ?_)
      refine ct_iload_n (k := 1) S dX3_leaves_18 rfl rfl ?_
      refine ct_icmp_ne (tgt := 25) S dX3_leaves_19 (by decide) ?_ ?_
      · refine ct_aload_n (k := 0) S dX3_leaves_25 rfl rfl ?_
        refine ct_getR S fw_X3_24 dX3_leaves_26 (fun r4 => ?_)
        refine ct_iload_n (k := 2) S dX3_leaves_29 rfl rfl ?_
        refine ct_aload_n (k := 0) S dX3_leaves_30 rfl rfl ?_
        refine ct_getR S fw_X3_24 dX3_leaves_31 (fun r5 => ?_)
        refine ct_iload_n (k := 3) S dX3_leaves_34 rfl rfl ?_
        refine ct_iald S dX3_leaves_35 (fun x6 => ?_)
        refine ct_iast S dX3_leaves_36 (fun h7 => ?_)
        refine ct_iincL (j := 2) (L2 := fun x8 => [(2, cz_i x8), (0, cz_r l0), (1, cz_i l1), (3, cz_i l3)]) S dX3_leaves_37 rfl kI_1 (by decide) (fun _ => rfl) (fun x8 => ?_)
        refine ct_iincL (j := 3) (L2 := fun x9 => [(3, cz_i x9), (2, cz_i x8), (0, cz_r l0), (1, cz_i l1)]) S dX3_leaves_40 rfl kI_1 (by decide) (fun _ => rfl) (fun x9 => ?_)
        refine ct_goto (tgt := 4) S dX3_leaves_43 (by decide) ?_
        exact ct_sub [2, 3, 1, 0] rfl (ih x8 x9 h7)
      · refine ct_goto (tgt := 40) S dX3_leaves_22 (by decide) ?_
        refine ct_iincL (j := 3) (L2 := fun x10 => [(3, cz_i x10), (0, cz_r l0), (1, cz_i l1), (2, cz_i l2)]) S dX3_leaves_40 rfl kI_1 (by decide) (fun _ => rfl) (fun x10 => ?_)
        refine ct_goto (tgt := 4) S dX3_leaves_43 (by decide) ?_
        exact ct_sub [1, 2, 3, 0] rfl (ih l2 x10 h)
set_option maxHeartbeats 4000000 in
set_option maxRecDepth 100000 in
noncomputable def fn_X3_leaves (l0 : Option Nat) (l1 : Int32) (h : cz_H) : cz_Z := fn_X3_leaves_4 l0 l1 (fun (e11 : Int32) (h12 : cz_H) => cz_put h12 l0 [(3, 5)] (cz_i e11) (fun h13 => some (.inl none, h13))) 1000 0 0 h
set_option maxHeartbeats 4000000 in
set_option maxRecDepth 100000 in
theorem wk_X3_leaves {K : cz_K} {D : cz_D} {h0 : cz_H} {oh : cz_O × cz_H} {l0 : Option Nat} {l1 : Int32} {h : cz_H} (S : cz_S K D h0 cX3_leaves 4 "HeldCoats$Reign" ((Option.none : Option Jvm.ClassFile.FieldType)) "leaves" ([])) : cz_T K D 2 h0 oh 4 (fn_X3_leaves l0 l1 h) h 0 [(0, cz_r l0), (1, cz_i l1)] [] := by
  unfold fn_X3_leaves
  refine ct_iconst (v := 0) S dX3_leaves_0 kI_0 ?_
  refine ct_istore_n (L' := [(2, cz_i 0), (0, cz_r l0), (1, cz_i l1)]) S dX3_leaves_1 rfl (by decide) rfl ?_
  refine ct_iconst (v := 0) S dX3_leaves_2 kI_0 ?_
  refine ct_istore_n (L' := [(3, cz_i 0), (2, cz_i 0), (0, cz_r l0), (1, cz_i l1)]) S dX3_leaves_3 rfl (by decide) rfl ?_
  refine ct_sub [2, 3, 1, 0] (L' := [(0, cz_r l0), (1, cz_i l1), (2, cz_i 0), (3, cz_i 0)]) rfl (wk_X3_leaves_4 S ?_ 1000 0 0 h)
  · intro e11 h12
    refine ct_aload_n (k := 0) S dX3_leaves_46 rfl rfl ?_
    refine ct_iload_n (k := 1) S dX3_leaves_47 rfl rfl ?_
    refine ct_put S fw_X3_50 fp_X3_m_3_5 (cz_fits_i pd_I) dX3_leaves_48 (fun h13 => ?_)
    exact ct_vret S rfl dX3_leaves_51
theorem mt_X3_leaves {l : Launch} {D : cz_D} {l0 : Option Nat} {l1 : Int32} {h : cz_H} {oh : cz_O × cz_H} (hz : fn_X3_leaves l0 l1 h = some oh) : cz_M l D yX3_leaves (ws_ yX3_leaves cX3_leaves 4 ((Option.none : Option Jvm.ClassFile.FieldType))) 2 [cz_r l0, cz_i l1] h oh := cz_met (plainFor_of_name (by decide)) (Nat.le_of_ble_eq_true rfl) hz (fun K hl S => wk_X3_leaves S)
/-! HeldCoats$Reign.wear(II)V -/
def dkwX3_wear_0 : List UInt8 := [42, 180, 0, 9, 27, 46, 16, 20, 160, 0, 8, 42, 27, 182, 0, 144, 42, 180, 0, 9, 27, 28, 79, 177]
abbrev dktX3_wear_0 : List UInt8 := dkwX3_wear_0 ++ []
theorem dksX3_wear_0 : cX3_wear.data.toList.drop 0 = dktX3_wear_0 := by decide +kernel
theorem dX3_wear_0 : decode cX3_wear 0 = .ok (.aload_n 0, 1) := dk_42 (dk_at dksX3_wear_0 0 rfl rfl)
theorem dX3_wear_1 : decode cX3_wear 1 = .ok (.getfield 9, 3) := dk_180 0 9 (dk_at dksX3_wear_0 1 rfl rfl)
theorem dX3_wear_4 : decode cX3_wear 4 = .ok (.iload_n 1, 1) := dk_27 (dk_at dksX3_wear_0 4 rfl rfl)
theorem dX3_wear_5 : decode cX3_wear 5 = .ok (.iaload, 1) := dk_46 (dk_at dksX3_wear_0 5 rfl rfl)
theorem dX3_wear_6 : decode cX3_wear 6 = .ok (.bipush 20, 2) := dk_16 20 (dk_at dksX3_wear_0 6 rfl rfl)
theorem dX3_wear_8 : decode cX3_wear 8 = .ok (.if_icmp .ne 8, 3) := dk_160 0 8 (dk_at dksX3_wear_0 8 rfl rfl)
theorem dX3_wear_11 : decode cX3_wear 11 = .ok (.aload_n 0, 1) := dk_42 (dk_at dksX3_wear_0 11 rfl rfl)
theorem dX3_wear_12 : decode cX3_wear 12 = .ok (.iload_n 1, 1) := dk_27 (dk_at dksX3_wear_0 12 rfl rfl)
theorem dX3_wear_13 : decode cX3_wear 13 = .ok (.invokevirtual 144, 3) := dk_182 0 144 (dk_at dksX3_wear_0 13 rfl rfl)
theorem dX3_wear_16 : decode cX3_wear 16 = .ok (.aload_n 0, 1) := dk_42 (dk_at dksX3_wear_0 16 rfl rfl)
theorem dX3_wear_17 : decode cX3_wear 17 = .ok (.getfield 9, 3) := dk_180 0 9 (dk_at dksX3_wear_0 17 rfl rfl)
theorem dX3_wear_20 : decode cX3_wear 20 = .ok (.iload_n 1, 1) := dk_27 (dk_at dksX3_wear_0 20 rfl rfl)
theorem dX3_wear_21 : decode cX3_wear 21 = .ok (.iload_n 2, 1) := dk_28 (dk_at dksX3_wear_0 21 rfl rfl)
theorem dX3_wear_22 : decode cX3_wear 22 = .ok (.iastore, 1) := dk_79 (dk_at dksX3_wear_0 22 rfl rfl)
theorem dX3_wear_23 : decode cX3_wear 23 = .ok (.return_, 1) := dk_177 (dk_at dksX3_wear_0 23 rfl rfl)
theorem se_HeldCoats_Reign_leaves__I_V_HeldCoats_Reign : ∀ c ∈ ([3] : List Nat), ∃ q : vw_C, cz_cl[c]? = some q ∧ Cond.selects q.1 (⟨"HeldCoats$Reign", "leaves", "(I)V"⟩ : MethodName) (⟨"HeldCoats$Reign", "leaves", "(I)V"⟩ : MethodName) ∈ lw_all := List.forall_mem_cons.mpr ⟨⟨_, cz_cl3, qs19⟩, fun _ h => absurd h List.not_mem_nil⟩
theorem md_X3_leaves : cz_md yX3_leaves 4 (ws_ yX3_leaves cX3_leaves 4 ((Option.none : Option Jvm.ClassFile.FieldType))) 1 := ⟨cz_ws_code q1298, q118, ⟨by decide, by decide, by decide +kernel⟩, by decide⟩
set_option maxHeartbeats 4000000 in
set_option maxRecDepth 100000 in
noncomputable def fn_X3_wear (l0 : Option Nat) (l1 : Int32) (l2 : Int32) (h : cz_H) : cz_Z := cz_getR h l0 [(3, 6)] (fun r1 => cz_iald h r1 l1 (fun x2 => (if x2 = 20 then cz_rc h l0 [3] (cz_cV (fn_X3_leaves l0 l1 h) (fun h11 => cz_getR h11 l0 [(3, 6)] (fun r12 => cz_iast h11 r12 l1 l2 (fun h13 => some (.inl none, h13))))) else cz_getR h l0 [(3, 6)] (fun r3 => cz_iast h r3 l1 l2 (fun h4 => some (.inl none, h4))))))
set_option maxHeartbeats 4000000 in
set_option maxRecDepth 100000 in
theorem wk_X3_wear {K : cz_K} {D : cz_D} {h0 : cz_H} {oh : cz_O × cz_H} {l0 : Option Nat} {l1 : Int32} {l2 : Int32} {h : cz_H} (S : cz_S K D h0 cX3_wear 3 "HeldCoats$Reign" ((Option.none : Option Jvm.ClassFile.FieldType)) "wear" ([])) : cz_T K D 3 h0 oh 3 (fn_X3_wear l0 l1 l2 h) h 0 [(0, cz_r l0), (1, cz_i l1), (2, cz_i l2)] [] := by
  unfold fn_X3_wear
  refine ct_aload_n (k := 0) S dX3_wear_0 rfl rfl ?_
  refine ct_getR S fw_X3_9 dX3_wear_1 (fun r1 => ?_)
  refine ct_iload_n (k := 1) S dX3_wear_4 rfl rfl ?_
  refine ct_iald S dX3_wear_5 (fun x2 => ?_)
  refine ct_bipush (v := 20) S dX3_wear_6 kB_20 ?_
  refine ct_icmp_ne (tgt := 16) S dX3_wear_8 (by decide) ?_ ?_
  · refine ct_aload_n (k := 0) S dX3_wear_16 rfl rfl ?_
    refine ct_getR S fw_X3_9 dX3_wear_17 (fun r3 => ?_)
    refine ct_iload_n (k := 1) S dX3_wear_20 rfl rfl ?_
    refine ct_iload_n (k := 2) S dX3_wear_21 rfl rfl ?_
    refine ct_iast S dX3_wear_22 (fun h4 => ?_)
    exact ct_vret S rfl dX3_wear_23
  · refine ct_aload_n (k := 0) S dX3_wear_11 rfl rfl ?_
    refine ct_iload_n (k := 1) S dX3_wear_12 rfl rfl ?_
    refine ct_rc (fun b5 ci6 V7 hb8 hc9 hi10 => ?_)
    refine ct_cV (st := []) (cg_virtual (av := [cz_i l1]) S hb8 hc9 hi10 (fun _ e => mt_X3_leaves e) md_X3_leaves q1295 q1297 se_HeldCoats_Reign_leaves__I_V_HeldCoats_Reign (by decide) (Nat.le_of_ble_eq_true rfl) rfl dX3_wear_13) (fun h11 => ?_)
    refine ct_aload_n (k := 0) S dX3_wear_16 rfl rfl ?_
    refine ct_getR S fw_X3_9 dX3_wear_17 (fun r12 => ?_)
    refine ct_iload_n (k := 1) S dX3_wear_20 rfl rfl ?_
    refine ct_iload_n (k := 2) S dX3_wear_21 rfl rfl ?_
    refine ct_iast S dX3_wear_22 (fun h13 => ?_)
    exact ct_vret S rfl dX3_wear_23
theorem mt_X3_wear {l : Launch} {D : cz_D} {l0 : Option Nat} {l1 : Int32} {l2 : Int32} {h : cz_H} {oh : cz_O × cz_H} (hz : fn_X3_wear l0 l1 l2 h = some oh) : cz_M l D yX3_wear (ws_ yX3_wear cX3_wear 3 ((Option.none : Option Jvm.ClassFile.FieldType))) 3 [cz_r l0, cz_i l1, cz_i l2] h oh := cz_met (plainFor_of_name (by decide)) (Nat.le_of_ble_eq_true rfl) hz (fun K hl S => wk_X3_wear S)
/-! HeldCoats$Reign.whyWear(II)I -/
def dkwX3_whyWear_2 : List UInt8 := [180, 0, 76, 28, 159, 0, 7, 5, 167, 0, 4, 3, 172]
abbrev dktX3_whyWear_2 : List UInt8 := dkwX3_whyWear_2 ++ []
def dkwX3_whyWear_1 : List UInt8 := [180, 0, 18, 27, 46, 28, 159, 0, 28, 42, 180, 0, 33, 180, 0, 63, 27, 182, 0, 68, 192, 0, 74]
abbrev dktX3_whyWear_1 : List UInt8 := dkwX3_whyWear_1 ++ dktX3_whyWear_2
def dkwX3_whyWear_0 : List UInt8 := [42, 27, 182, 0, 141, 154, 0, 14, 42, 180, 0, 9, 27, 46, 16, 30, 160, 0, 7, 4, 167, 0, 39, 42]
abbrev dktX3_whyWear_0 : List UInt8 := dkwX3_whyWear_0 ++ dktX3_whyWear_1
theorem dksX3_whyWear_0 : cX3_whyWear.data.toList.drop 0 = dktX3_whyWear_0 := by decide +kernel
theorem dksX3_whyWear_1 : cX3_whyWear.data.toList.drop 24 = dktX3_whyWear_1 := dk_seg dksX3_whyWear_0 24 rfl rfl
theorem dksX3_whyWear_2 : cX3_whyWear.data.toList.drop 47 = dktX3_whyWear_2 := dk_seg dksX3_whyWear_1 23 rfl rfl
theorem dX3_whyWear_0 : decode cX3_whyWear 0 = .ok (.aload_n 0, 1) := dk_42 (dk_at dksX3_whyWear_0 0 rfl rfl)
theorem dX3_whyWear_1 : decode cX3_whyWear 1 = .ok (.iload_n 1, 1) := dk_27 (dk_at dksX3_whyWear_0 1 rfl rfl)
theorem dX3_whyWear_2 : decode cX3_whyWear 2 = .ok (.invokevirtual 141, 3) := dk_182 0 141 (dk_at dksX3_whyWear_0 2 rfl rfl)
theorem dX3_whyWear_5 : decode cX3_whyWear 5 = .ok (.ifCond .ne 14, 3) := dk_154 0 14 (dk_at dksX3_whyWear_0 5 rfl rfl)
theorem dX3_whyWear_8 : decode cX3_whyWear 8 = .ok (.aload_n 0, 1) := dk_42 (dk_at dksX3_whyWear_0 8 rfl rfl)
theorem dX3_whyWear_9 : decode cX3_whyWear 9 = .ok (.getfield 9, 3) := dk_180 0 9 (dk_at dksX3_whyWear_0 9 rfl rfl)
theorem dX3_whyWear_12 : decode cX3_whyWear 12 = .ok (.iload_n 1, 1) := dk_27 (dk_at dksX3_whyWear_0 12 rfl rfl)
theorem dX3_whyWear_13 : decode cX3_whyWear 13 = .ok (.iaload, 1) := dk_46 (dk_at dksX3_whyWear_0 13 rfl rfl)
theorem dX3_whyWear_14 : decode cX3_whyWear 14 = .ok (.bipush 30, 2) := dk_16 30 (dk_at dksX3_whyWear_0 14 rfl rfl)
theorem dX3_whyWear_16 : decode cX3_whyWear 16 = .ok (.if_icmp .ne 7, 3) := dk_160 0 7 (dk_at dksX3_whyWear_0 16 rfl rfl)
theorem dX3_whyWear_19 : decode cX3_whyWear 19 = .ok (.iconst 1, 1) := dk_4 (dk_at dksX3_whyWear_0 19 rfl rfl)
theorem dX3_whyWear_20 : decode cX3_whyWear 20 = .ok (.goto 39, 3) := dk_167 0 39 (dk_at dksX3_whyWear_0 20 rfl rfl)
theorem dX3_whyWear_23 : decode cX3_whyWear 23 = .ok (.aload_n 0, 1) := dk_42 (dk_at dksX3_whyWear_0 23 rfl rfl)
theorem dX3_whyWear_24 : decode cX3_whyWear 24 = .ok (.getfield 18, 3) := dk_180 0 18 (dk_at dksX3_whyWear_1 0 rfl rfl)
theorem dX3_whyWear_27 : decode cX3_whyWear 27 = .ok (.iload_n 1, 1) := dk_27 (dk_at dksX3_whyWear_1 3 rfl rfl)
theorem dX3_whyWear_28 : decode cX3_whyWear 28 = .ok (.iaload, 1) := dk_46 (dk_at dksX3_whyWear_1 4 rfl rfl)
theorem dX3_whyWear_29 : decode cX3_whyWear 29 = .ok (.iload_n 2, 1) := dk_28 (dk_at dksX3_whyWear_1 5 rfl rfl)
theorem dX3_whyWear_30 : decode cX3_whyWear 30 = .ok (.if_icmp .eq 28, 3) := dk_159 0 28 (dk_at dksX3_whyWear_1 6 rfl rfl)
theorem dX3_whyWear_33 : decode cX3_whyWear 33 = .ok (.aload_n 0, 1) := dk_42 (dk_at dksX3_whyWear_1 9 rfl rfl)
theorem dX3_whyWear_34 : decode cX3_whyWear 34 = .ok (.getfield 33, 3) := dk_180 0 33 (dk_at dksX3_whyWear_1 10 rfl rfl)
theorem dX3_whyWear_37 : decode cX3_whyWear 37 = .ok (.getfield 63, 3) := dk_180 0 63 (dk_at dksX3_whyWear_1 13 rfl rfl)
theorem dX3_whyWear_40 : decode cX3_whyWear 40 = .ok (.iload_n 1, 1) := dk_27 (dk_at dksX3_whyWear_1 16 rfl rfl)
theorem dX3_whyWear_41 : decode cX3_whyWear 41 = .ok (.invokevirtual 68, 3) := dk_182 0 68 (dk_at dksX3_whyWear_1 17 rfl rfl)
theorem dX3_whyWear_44 : decode cX3_whyWear 44 = .ok (.checkcast 74, 3) := dk_192 0 74 (dk_at dksX3_whyWear_1 20 rfl rfl)
theorem dX3_whyWear_47 : decode cX3_whyWear 47 = .ok (.getfield 76, 3) := dk_180 0 76 (dk_at dksX3_whyWear_2 0 rfl rfl)
theorem dX3_whyWear_50 : decode cX3_whyWear 50 = .ok (.iload_n 2, 1) := dk_28 (dk_at dksX3_whyWear_2 3 rfl rfl)
theorem dX3_whyWear_51 : decode cX3_whyWear 51 = .ok (.if_icmp .eq 7, 3) := dk_159 0 7 (dk_at dksX3_whyWear_2 4 rfl rfl)
theorem dX3_whyWear_54 : decode cX3_whyWear 54 = .ok (.iconst 2, 1) := dk_5 (dk_at dksX3_whyWear_2 7 rfl rfl)
theorem dX3_whyWear_55 : decode cX3_whyWear 55 = .ok (.goto 4, 3) := dk_167 0 4 (dk_at dksX3_whyWear_2 8 rfl rfl)
theorem dX3_whyWear_58 : decode cX3_whyWear 58 = .ok (.iconst 0, 1) := dk_3 (dk_at dksX3_whyWear_2 11 rfl rfl)
theorem dX3_whyWear_59 : decode cX3_whyWear 59 = .ok (.ireturn, 1) := dk_172 (dk_at dksX3_whyWear_2 12 rfl rfl)
set_option maxHeartbeats 4000000 in
set_option maxRecDepth 100000 in
noncomputable def fn_X3_whyWear (l0 : Option Nat) (l1 : Int32) (l2 : Int32) (h : cz_H) : cz_Z := cz_rc h l0 [3] (cz_cI (fn_X3_isWorn l0 l1 h) (fun x8 h7 => (if x8 = 0 then cz_getR h7 l0 [(3, 6)] (fun r9 => cz_iald h7 r9 l1 (fun x10 => (if x10 = 30 then some (.inl (some (cz_i 1)), h7) else cz_getR h7 l0 [(3, 8)] (fun r11 => cz_iald h7 r11 l1 (fun x12 => (if x12 = l2 then some (.inl (some (cz_i 0)), h7) else cz_getR h7 l0 [(3, 0)] (fun r13 => cz_getR h7 r13 [(1, 8)] (fun r14 => cz_rc h7 r14 [2] (cz_cR (fn_J2_get r14 l1 h7) (fun r22 h21 => cz_cast h21 r22 [11] (cz_getI h21 r22 [(11, 1)] (fun x23 => (if x23 = l2 then some (.inl (some (cz_i 0)), h21) else some (.inl (some (cz_i 2)), h21)))))))))))))) else some (.inl (some (cz_i 1)), h7))))
set_option maxHeartbeats 4000000 in
set_option maxRecDepth 100000 in
theorem wk_X3_whyWear {K : cz_K} {D : cz_D} {h0 : cz_H} {oh : cz_O × cz_H} {l0 : Option Nat} {l1 : Int32} {l2 : Int32} {h : cz_H} (S : cz_S K D h0 cX3_whyWear 3 "HeldCoats$Reign" ((Option.some Jvm.ClassFile.FieldType.int)) "whyWear" ([])) : cz_T K D 5 h0 oh 3 (fn_X3_whyWear l0 l1 l2 h) h 0 [(0, cz_r l0), (1, cz_i l1), (2, cz_i l2)] [] := by
  unfold fn_X3_whyWear
  refine ct_aload_n (k := 0) S dX3_whyWear_0 rfl rfl ?_
  refine ct_iload_n (k := 1) S dX3_whyWear_1 rfl rfl ?_
  refine ct_rc (fun b1 ci2 V3 hb4 hc5 hi6 => ?_)
  refine ct_cI (st := []) (cg_virtual (av := [cz_i l1]) S hb4 hc5 hi6 (fun _ e => mt_X3_isWorn e) md_X3_isWorn q1266 q1267 se_HeldCoats_Reign_isWorn__I_Z_HeldCoats_Reign (by decide) (Nat.le_of_ble_eq_true rfl) rfl dX3_whyWear_2) (fun x8 h7 => ?_)
  refine ct_if_ne (tgt := 19) S dX3_whyWear_5 (by decide) ?_ ?_
  · refine ct_iconst (v := 1) S dX3_whyWear_19 kI_1 ?_
    refine ct_goto (tgt := 59) S dX3_whyWear_20 (by decide) ?_
    exact ct_iret S rfl dX3_whyWear_59
  · refine ct_aload_n (k := 0) S dX3_whyWear_8 rfl rfl ?_
    refine ct_getR S fw_X3_9 dX3_whyWear_9 (fun r9 => ?_)
    refine ct_iload_n (k := 1) S dX3_whyWear_12 rfl rfl ?_
    refine ct_iald S dX3_whyWear_13 (fun x10 => ?_)
    refine ct_bipush (v := 30) S dX3_whyWear_14 kB_30 ?_
    refine ct_icmp_ne (tgt := 23) S dX3_whyWear_16 (by decide) ?_ ?_
    · refine ct_aload_n (k := 0) S dX3_whyWear_23 rfl rfl ?_
      refine ct_getR S fw_X3_18 dX3_whyWear_24 (fun r11 => ?_)
      refine ct_iload_n (k := 1) S dX3_whyWear_27 rfl rfl ?_
      refine ct_iald S dX3_whyWear_28 (fun x12 => ?_)
      refine ct_iload_n (k := 2) S dX3_whyWear_29 rfl rfl ?_
      refine ct_icmp_eq (tgt := 58) S dX3_whyWear_30 (by decide) ?_ ?_
      · refine ct_iconst (v := 0) S dX3_whyWear_58 kI_0 ?_
        exact ct_iret S rfl dX3_whyWear_59
      · refine ct_aload_n (k := 0) S dX3_whyWear_33 rfl rfl ?_
        refine ct_getR S fw_X3_33 dX3_whyWear_34 (fun r13 => ?_)
        refine ct_getR S fw_X3_63 dX3_whyWear_37 (fun r14 => ?_)
        refine ct_iload_n (k := 1) S dX3_whyWear_40 rfl rfl ?_
        refine ct_rc (fun b15 ci16 V17 hb18 hc19 hi20 => ?_)
        refine ct_cR (st := []) (cg_virtual (av := [cz_i l1]) S hb18 hc19 hi20 (fun _ e => mt_J2_get e) md_J2_get q344 q345 se_java_util_ArrayList_get__I_Ljava_lang_Object__java_util_ArrayList (by decide) (Nat.le_of_ble_eq_true rfl) rfl dX3_whyWear_41) (fun r22 h21 => ?_)
        refine ct_cast S q358 ca_HeldCoats_Coat dX3_whyWear_44 ?_
        refine ct_getI S fw_X3_76 dX3_whyWear_47 (fun x23 => ?_)
        refine ct_iload_n (k := 2) S dX3_whyWear_50 rfl rfl ?_
        refine ct_icmp_eq (tgt := 58) S dX3_whyWear_51 (by decide) ?_ ?_
        · refine ct_iconst (v := 0) S dX3_whyWear_58 kI_0 ?_
          exact ct_iret S rfl dX3_whyWear_59
        · refine ct_iconst (v := 2) S dX3_whyWear_54 kI_2 ?_
          refine ct_goto (tgt := 59) S dX3_whyWear_55 (by decide) ?_
          exact ct_iret S rfl dX3_whyWear_59
    · refine ct_iconst (v := 1) S dX3_whyWear_19 kI_1 ?_
      refine ct_goto (tgt := 59) S dX3_whyWear_20 (by decide) ?_
      exact ct_iret S rfl dX3_whyWear_59
theorem mt_X3_whyWear {l : Launch} {D : cz_D} {l0 : Option Nat} {l1 : Int32} {l2 : Int32} {h : cz_H} {oh : cz_O × cz_H} (hz : fn_X3_whyWear l0 l1 l2 h = some oh) : cz_M l D yX3_whyWear (ws_ yX3_whyWear cX3_whyWear 3 ((Option.some Jvm.ClassFile.FieldType.int))) 5 [cz_r l0, cz_i l1, cz_i l2] h oh := cz_met (plainFor_of_name (by decide)) (Nat.le_of_ble_eq_true rfl) hz (fun K hl S => wk_X3_whyWear S)
/-! HeldCoats$Wears.does(LHeldCoats$Reign;)I -/
def dkwX18_does_1 : List UInt8 := [180, 0, 13, 182, 0, 22, 28, 16, 10, 184, 0, 25, 172]
abbrev dktX18_does_1 : List UInt8 := dkwX18_does_1 ++ []
def dkwX18_does_0 : List UInt8 := [43, 42, 180, 0, 7, 42, 180, 0, 13, 182, 0, 16, 61, 28, 154, 0, 15, 43, 42, 180, 0, 7, 42]
abbrev dktX18_does_0 : List UInt8 := dkwX18_does_0 ++ dktX18_does_1
theorem dksX18_does_0 : cX18_does.data.toList.drop 0 = dktX18_does_0 := by decide +kernel
theorem dksX18_does_1 : cX18_does.data.toList.drop 23 = dktX18_does_1 := dk_seg dksX18_does_0 23 rfl rfl
theorem dX18_does_0 : decode cX18_does 0 = .ok (.aload_n 1, 1) := dk_43 (dk_at dksX18_does_0 0 rfl rfl)
theorem dX18_does_1 : decode cX18_does 1 = .ok (.aload_n 0, 1) := dk_42 (dk_at dksX18_does_0 1 rfl rfl)
theorem dX18_does_2 : decode cX18_does 2 = .ok (.getfield 7, 3) := dk_180 0 7 (dk_at dksX18_does_0 2 rfl rfl)
theorem dX18_does_5 : decode cX18_does 5 = .ok (.aload_n 0, 1) := dk_42 (dk_at dksX18_does_0 5 rfl rfl)
theorem dX18_does_6 : decode cX18_does 6 = .ok (.getfield 13, 3) := dk_180 0 13 (dk_at dksX18_does_0 6 rfl rfl)
theorem dX18_does_9 : decode cX18_does 9 = .ok (.invokevirtual 16, 3) := dk_182 0 16 (dk_at dksX18_does_0 9 rfl rfl)
theorem dX18_does_12 : decode cX18_does 12 = .ok (.istore_n 2, 1) := dk_61 (dk_at dksX18_does_0 12 rfl rfl)
theorem dX18_does_13 : decode cX18_does 13 = .ok (.iload_n 2, 1) := dk_28 (dk_at dksX18_does_0 13 rfl rfl)
theorem dX18_does_14 : decode cX18_does 14 = .ok (.ifCond .ne 15, 3) := dk_154 0 15 (dk_at dksX18_does_0 14 rfl rfl)
theorem dX18_does_17 : decode cX18_does 17 = .ok (.aload_n 1, 1) := dk_43 (dk_at dksX18_does_0 17 rfl rfl)
theorem dX18_does_18 : decode cX18_does 18 = .ok (.aload_n 0, 1) := dk_42 (dk_at dksX18_does_0 18 rfl rfl)
theorem dX18_does_19 : decode cX18_does 19 = .ok (.getfield 7, 3) := dk_180 0 7 (dk_at dksX18_does_0 19 rfl rfl)
theorem dX18_does_22 : decode cX18_does 22 = .ok (.aload_n 0, 1) := dk_42 (dk_at dksX18_does_0 22 rfl rfl)
theorem dX18_does_23 : decode cX18_does 23 = .ok (.getfield 13, 3) := dk_180 0 13 (dk_at dksX18_does_1 0 rfl rfl)
theorem dX18_does_26 : decode cX18_does 26 = .ok (.invokevirtual 22, 3) := dk_182 0 22 (dk_at dksX18_does_1 3 rfl rfl)
theorem dX18_does_29 : decode cX18_does 29 = .ok (.iload_n 2, 1) := dk_28 (dk_at dksX18_does_1 6 rfl rfl)
theorem dX18_does_30 : decode cX18_does 30 = .ok (.bipush 10, 2) := dk_16 10 (dk_at dksX18_does_1 7 rfl rfl)
theorem dX18_does_32 : decode cX18_does 32 = .ok (.invokestatic 25, 3) := dk_184 0 25 (dk_at dksX18_does_1 9 rfl rfl)
theorem dX18_does_35 : decode cX18_does 35 = .ok (.ireturn, 1) := dk_172 (dk_at dksX18_does_1 12 rfl rfl)
theorem fw_X18_7 : cz_FW "HeldCoats$Wears" 7 [(13, 1)] "I" := ⟨"HeldCoats$Wears", "coat", Or.inl q1179, List.forall_mem_cons.mpr ⟨⟨RX18, TX18, 2, rfl, by decide, rfl, rfl, Or.inr q1180⟩, fun _ h => absurd h List.not_mem_nil⟩, by decide⟩
theorem fw_X18_13 : cz_FW "HeldCoats$Wears" 13 [(13, 0)] "I" := ⟨"HeldCoats$Wears", "other", Or.inl q1170, List.forall_mem_cons.mpr ⟨⟨RX18, TX18, 2, rfl, by decide, rfl, rfl, Or.inr q1171⟩, fun _ h => absurd h List.not_mem_nil⟩, by decide⟩
theorem se_HeldCoats_Reign_whyWear__II_I_HeldCoats_Reign : ∀ c ∈ ([3] : List Nat), ∃ q : vw_C, cz_cl[c]? = some q ∧ Cond.selects q.1 (⟨"HeldCoats$Reign", "whyWear", "(II)I"⟩ : MethodName) (⟨"HeldCoats$Reign", "whyWear", "(II)I"⟩ : MethodName) ∈ lw_all := List.forall_mem_cons.mpr ⟨⟨_, cz_cl3, q1289⟩, fun _ h => absurd h List.not_mem_nil⟩
theorem md_X3_whyWear : cz_md yX3_whyWear 3 (ws_ yX3_whyWear cX3_whyWear 3 ((Option.some Jvm.ClassFile.FieldType.int))) 2 := ⟨cz_ws_code q1290, q118, ⟨by decide, by decide, by decide +kernel⟩, by decide⟩
theorem se_HeldCoats_Reign_wear__II_V_HeldCoats_Reign : ∀ c ∈ ([3] : List Nat), ∃ q : vw_C, cz_cl[c]? = some q ∧ Cond.selects q.1 (⟨"HeldCoats$Reign", "wear", "(II)V"⟩ : MethodName) (⟨"HeldCoats$Reign", "wear", "(II)V"⟩ : MethodName) ∈ lw_all := List.forall_mem_cons.mpr ⟨⟨_, cz_cl3, q1293⟩, fun _ h => absurd h List.not_mem_nil⟩
theorem md_X3_wear : cz_md yX3_wear 3 (ws_ yX3_wear cX3_wear 3 ((Option.none : Option Jvm.ClassFile.FieldType))) 2 := ⟨cz_ws_code q1294, q118, ⟨by decide, by decide, by decide +kernel⟩, by decide⟩
set_option maxHeartbeats 4000000 in
set_option maxRecDepth 100000 in
noncomputable def fn_X18_does (l0 : Option Nat) (l1 : Option Nat) (h : cz_H) : cz_Z := cz_getI h l0 [(13, 1)] (fun x1 => cz_getI h l0 [(13, 0)] (fun x2 => cz_rc h l1 [3] (cz_cI (fn_X3_whyWear l1 x1 x2 h) (fun x10 h9 => (if x10 = 0 then cz_getI h9 l0 [(13, 1)] (fun x13 => cz_getI h9 l0 [(13, 0)] (fun x14 => cz_rc h9 l1 [3] (cz_cV (fn_X3_wear l1 x13 x14 h9) (fun h21 => cz_cI (fn_X12_told x10 10 h21) (fun x23 h22 => some (.inl (some (cz_i x23)), h22)))))) else cz_cI (fn_X12_told x10 10 h9) (fun x12 h11 => some (.inl (some (cz_i x12)), h11)))))))
set_option maxHeartbeats 4000000 in
set_option maxRecDepth 100000 in
theorem wk_X18_does {K : cz_K} {D : cz_D} {h0 : cz_H} {oh : cz_O × cz_H} {l0 : Option Nat} {l1 : Option Nat} {h : cz_H} (S : cz_S K D h0 cX18_does 3 "HeldCoats$Wears" ((Option.some Jvm.ClassFile.FieldType.int)) "does" ([])) : cz_T K D 11 h0 oh 3 (fn_X18_does l0 l1 h) h 0 [(0, cz_r l0), (1, cz_r l1)] [] := by
  unfold fn_X18_does
  refine ct_aload_n (k := 1) S dX18_does_0 rfl rfl ?_
  refine ct_aload_n (k := 0) S dX18_does_1 rfl rfl ?_
  refine ct_getI S fw_X18_7 dX18_does_2 (fun x1 => ?_)
  refine ct_aload_n (k := 0) S dX18_does_5 rfl rfl ?_
  refine ct_getI S fw_X18_13 dX18_does_6 (fun x2 => ?_)
  refine ct_rc (fun b3 ci4 V5 hb6 hc7 hi8 => ?_)
  refine ct_cI (st := []) (cg_virtual (av := [cz_i x1, cz_i x2]) S hb6 hc7 hi8 (fun _ e => mt_X3_whyWear e) md_X3_whyWear q1287 q1288 se_HeldCoats_Reign_whyWear__II_I_HeldCoats_Reign (by decide) (Nat.le_of_ble_eq_true rfl) rfl dX18_does_9) (fun x10 h9 => ?_)
  refine ct_istore_n (L' := [(2, cz_i x10), (0, cz_r l0), (1, cz_r l1)]) S dX18_does_12 rfl (by decide) rfl ?_
  refine ct_iload_n (k := 0) S dX18_does_13 rfl rfl ?_
  refine ct_if_ne (tgt := 29) S dX18_does_14 (by decide) ?_ ?_
  · refine ct_iload_n (k := 0) S dX18_does_29 rfl rfl ?_
    refine ct_bipush (v := 10) S dX18_does_30 kB_10 ?_
    refine ct_cI (st := []) (cg_staticUp (owner := "HeldCoats$Act") (av := [cz_i x10, cz_i 10]) S (fun _ e => mt_X12_told e) md_X12_told q1299 q1300 q1257 rfl (by decide) (Nat.le_of_ble_eq_true rfl) rfl dX18_does_32) (fun x12 h11 => ?_)
    exact ct_iret S rfl dX18_does_35
  · refine ct_aload_n (k := 2) S dX18_does_17 rfl rfl ?_
    refine ct_aload_n (k := 1) S dX18_does_18 rfl rfl ?_
    refine ct_getI S fw_X18_7 dX18_does_19 (fun x13 => ?_)
    refine ct_aload_n (k := 1) S dX18_does_22 rfl rfl ?_
    refine ct_getI S fw_X18_13 dX18_does_23 (fun x14 => ?_)
    refine ct_rc (fun b15 ci16 V17 hb18 hc19 hi20 => ?_)
    refine ct_cV (st := []) (cg_virtual (av := [cz_i x13, cz_i x14]) S hb18 hc19 hi20 (fun _ e => mt_X3_wear e) md_X3_wear q1291 q1292 se_HeldCoats_Reign_wear__II_V_HeldCoats_Reign (by decide) (Nat.le_of_ble_eq_true rfl) rfl dX18_does_26) (fun h21 => ?_)
    refine ct_iload_n (k := 0) S dX18_does_29 rfl rfl ?_
    refine ct_bipush (v := 10) S dX18_does_30 kB_10 ?_
    refine ct_cI (st := []) (cg_staticUp (owner := "HeldCoats$Act") (av := [cz_i x10, cz_i 10]) S (fun _ e => mt_X12_told e) md_X12_told q1299 q1300 q1257 rfl (by decide) (Nat.le_of_ble_eq_true rfl) rfl dX18_does_32) (fun x23 h22 => ?_)
    exact ct_iret S rfl dX18_does_35
theorem mt_X18_does {l : Launch} {D : cz_D} {l0 : Option Nat} {l1 : Option Nat} {h : cz_H} {oh : cz_O × cz_H} (hz : fn_X18_does l0 l1 h = some oh) : cz_M l D yX18_does (ws_ yX18_does cX18_does 3 ((Option.some Jvm.ClassFile.FieldType.int))) 11 [cz_r l0, cz_r l1] h oh := cz_met (plainFor_of_name (by decide)) (Nat.le_of_ble_eq_true rfl) hz (fun K hl S => wk_X18_does S)
/-! HeldCoats.snap()V -/
def dkwX1_snap_3 : List UInt8 := [180, 0, 42, 182, 0, 232, 87, 42, 89, 180, 0, 105, 4, 96, 181, 0, 105, 177]
abbrev dktX1_snap_3 : List UInt8 := dkwX1_snap_3 ++ []
def dkwX1_snap_2 : List UInt8 := [16, 7, 43, 83, 42, 89, 180, 0, 105, 4, 100, 181, 0, 105, 42, 180, 0, 49, 42, 180, 0, 105, 50, 42]
abbrev dktX1_snap_2 : List UInt8 := dkwX1_snap_2 ++ dktX1_snap_3
def dkwX1_snap_1 : List UInt8 := [42, 180, 0, 49, 28, 4, 100, 42, 180, 0, 49, 28, 50, 83, 132, 2, 1, 167, 255, 233, 42, 180, 0, 49]
abbrev dktX1_snap_1 : List UInt8 := dkwX1_snap_1 ++ dktX1_snap_2
def dkwX1_snap_0 : List UInt8 := [42, 180, 0, 105, 16, 8, 160, 0, 56, 42, 180, 0, 49, 3, 50, 76, 4, 61, 28, 16, 8, 162, 0, 23]
abbrev dktX1_snap_0 : List UInt8 := dkwX1_snap_0 ++ dktX1_snap_1
theorem dksX1_snap_0 : cX1_snap.data.toList.drop 0 = dktX1_snap_0 := by decide +kernel
theorem dksX1_snap_1 : cX1_snap.data.toList.drop 24 = dktX1_snap_1 := dk_seg dksX1_snap_0 24 rfl rfl
theorem dksX1_snap_2 : cX1_snap.data.toList.drop 48 = dktX1_snap_2 := dk_seg dksX1_snap_1 24 rfl rfl
theorem dksX1_snap_3 : cX1_snap.data.toList.drop 72 = dktX1_snap_3 := dk_seg dksX1_snap_2 24 rfl rfl
theorem dX1_snap_0 : decode cX1_snap 0 = .ok (.aload_n 0, 1) := dk_42 (dk_at dksX1_snap_0 0 rfl rfl)
theorem dX1_snap_1 : decode cX1_snap 1 = .ok (.getfield 105, 3) := dk_180 0 105 (dk_at dksX1_snap_0 1 rfl rfl)
theorem dX1_snap_4 : decode cX1_snap 4 = .ok (.bipush 8, 2) := dk_16 8 (dk_at dksX1_snap_0 4 rfl rfl)
theorem dX1_snap_6 : decode cX1_snap 6 = .ok (.if_icmp .ne 56, 3) := dk_160 0 56 (dk_at dksX1_snap_0 6 rfl rfl)
theorem dX1_snap_9 : decode cX1_snap 9 = .ok (.aload_n 0, 1) := dk_42 (dk_at dksX1_snap_0 9 rfl rfl)
theorem dX1_snap_10 : decode cX1_snap 10 = .ok (.getfield 49, 3) := dk_180 0 49 (dk_at dksX1_snap_0 10 rfl rfl)
theorem dX1_snap_13 : decode cX1_snap 13 = .ok (.iconst 0, 1) := dk_3 (dk_at dksX1_snap_0 13 rfl rfl)
theorem dX1_snap_14 : decode cX1_snap 14 = .ok (.aaload, 1) := dk_50 (dk_at dksX1_snap_0 14 rfl rfl)
theorem dX1_snap_15 : decode cX1_snap 15 = .ok (.astore_n 1, 1) := dk_76 (dk_at dksX1_snap_0 15 rfl rfl)
theorem dX1_snap_16 : decode cX1_snap 16 = .ok (.iconst 1, 1) := dk_4 (dk_at dksX1_snap_0 16 rfl rfl)
theorem dX1_snap_17 : decode cX1_snap 17 = .ok (.istore_n 2, 1) := dk_61 (dk_at dksX1_snap_0 17 rfl rfl)
theorem dX1_snap_18 : decode cX1_snap 18 = .ok (.iload_n 2, 1) := dk_28 (dk_at dksX1_snap_0 18 rfl rfl)
theorem dX1_snap_19 : decode cX1_snap 19 = .ok (.bipush 8, 2) := dk_16 8 (dk_at dksX1_snap_0 19 rfl rfl)
theorem dX1_snap_21 : decode cX1_snap 21 = .ok (.if_icmp .ge 23, 3) := dk_162 0 23 (dk_at dksX1_snap_0 21 rfl rfl)
theorem dX1_snap_24 : decode cX1_snap 24 = .ok (.aload_n 0, 1) := dk_42 (dk_at dksX1_snap_1 0 rfl rfl)
theorem dX1_snap_25 : decode cX1_snap 25 = .ok (.getfield 49, 3) := dk_180 0 49 (dk_at dksX1_snap_1 1 rfl rfl)
theorem dX1_snap_28 : decode cX1_snap 28 = .ok (.iload_n 2, 1) := dk_28 (dk_at dksX1_snap_1 4 rfl rfl)
theorem dX1_snap_29 : decode cX1_snap 29 = .ok (.iconst 1, 1) := dk_4 (dk_at dksX1_snap_1 5 rfl rfl)
theorem dX1_snap_30 : decode cX1_snap 30 = .ok (.isub, 1) := dk_100 (dk_at dksX1_snap_1 6 rfl rfl)
theorem dX1_snap_31 : decode cX1_snap 31 = .ok (.aload_n 0, 1) := dk_42 (dk_at dksX1_snap_1 7 rfl rfl)
theorem dX1_snap_32 : decode cX1_snap 32 = .ok (.getfield 49, 3) := dk_180 0 49 (dk_at dksX1_snap_1 8 rfl rfl)
theorem dX1_snap_35 : decode cX1_snap 35 = .ok (.iload_n 2, 1) := dk_28 (dk_at dksX1_snap_1 11 rfl rfl)
theorem dX1_snap_36 : decode cX1_snap 36 = .ok (.aaload, 1) := dk_50 (dk_at dksX1_snap_1 12 rfl rfl)
theorem dX1_snap_37 : decode cX1_snap 37 = .ok (.aastore, 1) := dk_83 (dk_at dksX1_snap_1 13 rfl rfl)
theorem dX1_snap_38 : decode cX1_snap 38 = .ok (.iinc 2 1, 3) := dk_132 2 1 (dk_at dksX1_snap_1 14 rfl rfl)
theorem dX1_snap_41 : decode cX1_snap 41 = .ok (.goto (-23), 3) := dk_167 255 233 (dk_at dksX1_snap_1 17 rfl rfl)
theorem dX1_snap_44 : decode cX1_snap 44 = .ok (.aload_n 0, 1) := dk_42 (dk_at dksX1_snap_1 20 rfl rfl)
theorem dX1_snap_45 : decode cX1_snap 45 = .ok (.getfield 49, 3) := dk_180 0 49 (dk_at dksX1_snap_1 21 rfl rfl)
theorem dX1_snap_48 : decode cX1_snap 48 = .ok (.bipush 7, 2) := dk_16 7 (dk_at dksX1_snap_2 0 rfl rfl)
theorem dX1_snap_50 : decode cX1_snap 50 = .ok (.aload_n 1, 1) := dk_43 (dk_at dksX1_snap_2 2 rfl rfl)
theorem dX1_snap_51 : decode cX1_snap 51 = .ok (.aastore, 1) := dk_83 (dk_at dksX1_snap_2 3 rfl rfl)
theorem dX1_snap_52 : decode cX1_snap 52 = .ok (.aload_n 0, 1) := dk_42 (dk_at dksX1_snap_2 4 rfl rfl)
theorem dX1_snap_53 : decode cX1_snap 53 = .ok (.dup, 1) := dk_89 (dk_at dksX1_snap_2 5 rfl rfl)
theorem dX1_snap_54 : decode cX1_snap 54 = .ok (.getfield 105, 3) := dk_180 0 105 (dk_at dksX1_snap_2 6 rfl rfl)
theorem dX1_snap_57 : decode cX1_snap 57 = .ok (.iconst 1, 1) := dk_4 (dk_at dksX1_snap_2 9 rfl rfl)
theorem dX1_snap_58 : decode cX1_snap 58 = .ok (.isub, 1) := dk_100 (dk_at dksX1_snap_2 10 rfl rfl)
theorem dX1_snap_59 : decode cX1_snap 59 = .ok (.putfield 105, 3) := dk_181 0 105 (dk_at dksX1_snap_2 11 rfl rfl)
theorem dX1_snap_62 : decode cX1_snap 62 = .ok (.aload_n 0, 1) := dk_42 (dk_at dksX1_snap_2 14 rfl rfl)
theorem dX1_snap_63 : decode cX1_snap 63 = .ok (.getfield 49, 3) := dk_180 0 49 (dk_at dksX1_snap_2 15 rfl rfl)
theorem dX1_snap_66 : decode cX1_snap 66 = .ok (.aload_n 0, 1) := dk_42 (dk_at dksX1_snap_2 18 rfl rfl)
theorem dX1_snap_67 : decode cX1_snap 67 = .ok (.getfield 105, 3) := dk_180 0 105 (dk_at dksX1_snap_2 19 rfl rfl)
theorem dX1_snap_70 : decode cX1_snap 70 = .ok (.aaload, 1) := dk_50 (dk_at dksX1_snap_2 22 rfl rfl)
theorem dX1_snap_71 : decode cX1_snap 71 = .ok (.aload_n 0, 1) := dk_42 (dk_at dksX1_snap_2 23 rfl rfl)
theorem dX1_snap_72 : decode cX1_snap 72 = .ok (.getfield 42, 3) := dk_180 0 42 (dk_at dksX1_snap_3 0 rfl rfl)
theorem dX1_snap_75 : decode cX1_snap 75 = .ok (.invokevirtual 232, 3) := dk_182 0 232 (dk_at dksX1_snap_3 3 rfl rfl)
theorem dX1_snap_78 : decode cX1_snap 78 = .ok (.pop, 1) := dk_87 (dk_at dksX1_snap_3 6 rfl rfl)
theorem dX1_snap_79 : decode cX1_snap 79 = .ok (.aload_n 0, 1) := dk_42 (dk_at dksX1_snap_3 7 rfl rfl)
theorem dX1_snap_80 : decode cX1_snap 80 = .ok (.dup, 1) := dk_89 (dk_at dksX1_snap_3 8 rfl rfl)
theorem dX1_snap_81 : decode cX1_snap 81 = .ok (.getfield 105, 3) := dk_180 0 105 (dk_at dksX1_snap_3 9 rfl rfl)
theorem dX1_snap_84 : decode cX1_snap 84 = .ok (.iconst 1, 1) := dk_4 (dk_at dksX1_snap_3 12 rfl rfl)
theorem dX1_snap_85 : decode cX1_snap 85 = .ok (.iadd, 1) := dk_96 (dk_at dksX1_snap_3 13 rfl rfl)
theorem dX1_snap_86 : decode cX1_snap 86 = .ok (.putfield 105, 3) := dk_181 0 105 (dk_at dksX1_snap_3 14 rfl rfl)
theorem dX1_snap_89 : decode cX1_snap 89 = .ok (.return_, 1) := dk_177 (dk_at dksX1_snap_3 17 rfl rfl)
theorem fw_X1_105 : cz_FW "HeldCoats" 105 [(0, 8)] "I" := ⟨"HeldCoats", "befores", Or.inl q388, List.forall_mem_cons.mpr ⟨⟨RX1, TX1, 18, rfl, by decide, rfl, rfl, Or.inl rfl⟩, fun _ h => absurd h List.not_mem_nil⟩, by decide⟩
theorem fw_X1_49 : cz_FW "HeldCoats" 49 [(0, 7)] "[LHeldCoats$Reign;" := ⟨"HeldCoats", "before", Or.inl q387, List.forall_mem_cons.mpr ⟨⟨RX1, TX1, 18, rfl, by decide, rfl, rfl, Or.inl rfl⟩, fun _ h => absurd h List.not_mem_nil⟩, by decide⟩
theorem fp_X1_m_0_8 {nm : String} : cz_FP "HeldCoats" nm [(0, 8)] := List.forall_mem_cons.mpr ⟨⟨RX1, TX1, 18, rfl, Or.inl rfl⟩, fun _ h => absurd h List.not_mem_nil⟩
set_option maxHeartbeats 4000000 in
set_option maxRecDepth 100000 in
noncomputable def fn_X1_snap_18 (l0 : Option Nat) (k0 : cz_H → cz_Z) : Nat → Int32 → cz_H → cz_Z
  | 0, _, _ => none
  | n + 1, l2, h => (if (8 : Int32) ≤ l2 then k0 h else cz_getR h l0 [(0, 7)] (fun r20 => cz_getR h l0 [(0, 7)] (fun r21 => cz_aald h r21 l2 (fun r22 => cz_aast h r20 (l2 - 1) r22 (fun h23 => cz_leti (l2 + 1) (fun x24 => fn_X1_snap_18 l0 k0 n x24 h23))))))
set_option maxHeartbeats 4000000 in
set_option maxRecDepth 100000 in
theorem wk_X1_snap_18 {K : cz_K} {D : cz_D} {h0 : cz_H} {oh : cz_O × cz_H} {l0 : Option Nat} {l1 : Option Nat} {k0 : cz_H → cz_Z} (S : cz_S K D h0 cX1_snap 3 "HeldCoats" ((Option.none : Option Jvm.ClassFile.FieldType)) "snap" ([])) (hk0 : ∀ (h : cz_H), cz_T K D 4 h0 oh 3 (k0 h) h 44 [(0, cz_r l0), (1, cz_r l1)] []) : ∀ (n : Nat) (l2 : Int32) (h : cz_H), cz_T K D 4 h0 oh 3 (fn_X1_snap_18 l0 k0 n l2 h) h 18 [(0, cz_r l0), (1, cz_r l1), (2, cz_i l2)] [] := by
  intro n
  induction n with
  | zero => intros; exact ct_none
  | succ n ih =>
    intro l2 h
    rw [fn_X1_snap_18]
    refine ct_iload_n (k := 2) S dX1_snap_18 rfl rfl ?_
    refine ct_bipush (v := 8) S dX1_snap_19 kB_8 ?_
    refine ct_icmp_ge (tgt := 44) S dX1_snap_21 (by decide) ?_ ?_
    · exact ct_sub [0, 1] rfl (hk0 h)
    · refine ct_aload_n (k := 0) S dX1_snap_24 rfl rfl ?_
      refine ct_getR S fw_X1_49 dX1_snap_25 (fun r20 => ?_)
      refine ct_iload_n (k := 2) S dX1_snap_28 rfl rfl ?_
      refine ct_iconst (v := 1) S dX1_snap_29 kI_1 ?_
      refine ct_isub S dX1_snap_30 ?_
      refine ct_aload_n (k := 0) S dX1_snap_31 rfl rfl ?_
      refine ct_getR S fw_X1_49 dX1_snap_32 (fun r21 => ?_)
      refine ct_iload_n (k := 2) S dX1_snap_35 rfl rfl ?_
      refine ct_aald S dX1_snap_36 (fun r22 => ?_)
      refine ct_aast S dX1_snap_37 (fun h23 => ?_)
      refine ct_iincL (j := 2) (L2 := fun x24 => [(2, cz_i x24), (0, cz_r l0), (1, cz_r l1)]) S dX1_snap_38 rfl kI_1 (by decide) (fun _ => rfl) (fun x24 => ?_)
      refine ct_goto (tgt := 18) S dX1_snap_41 (by decide) ?_
      exact ct_sub [1, 2, 0] rfl (ih x24 h23)
set_option maxHeartbeats 4000000 in
set_option maxRecDepth 100000 in
noncomputable def fn_X1_snap (l0 : Option Nat) (h : cz_H) : cz_Z := cz_getI h l0 [(0, 8)] (fun x1 => cz_jn (fun (h2 : cz_H) => cz_getR h2 l0 [(0, 7)] (fun r3 => cz_getI h2 l0 [(0, 8)] (fun x4 => cz_aald h2 r3 x4 (fun r5 => cz_getR h2 l0 [(0, 4)] (fun r6 => cz_rc h2 r5 [3] (cz_cR (fn_X3_as r5 r6 h2) (fun r14 h13 => cz_getI h13 l0 [(0, 8)] (fun x15 => cz_put h13 l0 [(0, 8)] (cz_i (x15 + 1)) (fun h16 => some (.inl none, h16)))))))))) (fun j17 => (if x1 = 8 then cz_getR h l0 [(0, 7)] (fun r18 => cz_aald h r18 0 (fun r19 => fn_X1_snap_18 l0 (fun (h25 : cz_H) => cz_getR h25 l0 [(0, 7)] (fun r26 => cz_aast h25 r26 7 r19 (fun h27 => cz_getI h27 l0 [(0, 8)] (fun x28 => cz_put h27 l0 [(0, 8)] (cz_i (x28 - 1)) (fun h29 => j17 h29))))) 1000 1 h)) else j17 h)))
set_option maxHeartbeats 4000000 in
set_option maxRecDepth 100000 in
theorem wk_X1_snap {K : cz_K} {D : cz_D} {h0 : cz_H} {oh : cz_O × cz_H} {l0 : Option Nat} {h : cz_H} (S : cz_S K D h0 cX1_snap 3 "HeldCoats" ((Option.none : Option Jvm.ClassFile.FieldType)) "snap" ([])) : cz_T K D 4 h0 oh 3 (fn_X1_snap l0 h) h 0 [(0, cz_r l0)] [] := by
  unfold fn_X1_snap
  refine ct_aload_n (k := 0) S dX1_snap_0 rfl rfl ?_
  refine ct_getI S fw_X1_105 dX1_snap_1 (fun x1 => ?_)
  refine ct_bipush (v := 8) S dX1_snap_4 kB_8 ?_
  refine ct_jnP (fun j17 => ∀ (h2 : cz_H), cz_T K D 4 h0 oh 3 (j17 h2) h2 62 [(0, cz_r l0)] []) (fun h2 => ?_) (fun j17 Hj17 => ?_)
  · refine ct_aload_n (k := 0) S dX1_snap_62 rfl rfl ?_
    refine ct_getR S fw_X1_49 dX1_snap_63 (fun r3 => ?_)
    refine ct_aload_n (k := 0) S dX1_snap_66 rfl rfl ?_
    refine ct_getI S fw_X1_105 dX1_snap_67 (fun x4 => ?_)
    refine ct_aald S dX1_snap_70 (fun r5 => ?_)
    refine ct_aload_n (k := 0) S dX1_snap_71 rfl rfl ?_
    refine ct_getR S fw_X1_42 dX1_snap_72 (fun r6 => ?_)
    refine ct_rc (fun b7 ci8 V9 hb10 hc11 hi12 => ?_)
    refine ct_cR (st := []) (cg_virtual (av := [cz_r r6]) S hb10 hc11 hi12 (fun _ e => mt_X3_as e) md_X3_as q1190 q1191 se_HeldCoats_Reign_as__LHeldCoats_Reign__LHeldCoats_Reign__HeldCoats_Reign (by decide) (Nat.le_of_ble_eq_true rfl) rfl dX1_snap_75) (fun r14 h13 => ?_)
    refine ct_pop S dX1_snap_78 rfl ?_
    refine ct_aload_n (k := 0) S dX1_snap_79 rfl rfl ?_
    refine ct_dup S dX1_snap_80 rfl ?_
    refine ct_getI S fw_X1_105 dX1_snap_81 (fun x15 => ?_)
    refine ct_iconst (v := 1) S dX1_snap_84 kI_1 ?_
    refine ct_iadd S dX1_snap_85 ?_
    refine ct_put S fw_X1_105 fp_X1_m_0_8 (cz_fits_i pd_I) dX1_snap_86 (fun h16 => ?_)
    exact ct_vret S rfl dX1_snap_89
  · refine ct_icmp_ne (tgt := 62) S dX1_snap_6 (by decide) ?_ ?_
    · exact Hj17 h
    · refine ct_aload_n (k := 0) S dX1_snap_9 rfl rfl ?_
      refine ct_getR S fw_X1_49 dX1_snap_10 (fun r18 => ?_)
      refine ct_iconst (v := 0) S dX1_snap_13 kI_0 ?_
      refine ct_aald S dX1_snap_14 (fun r19 => ?_)
      refine ct_astore_n (L' := [(1, cz_r r19), (0, cz_r l0)]) S dX1_snap_15 rfl (by decide) rfl ?_
      refine ct_iconst (v := 1) S dX1_snap_16 kI_1 ?_
      refine ct_istore_n (L' := [(2, cz_i 1), (1, cz_r r19), (0, cz_r l0)]) S dX1_snap_17 rfl (by decide) rfl ?_
      refine ct_sub [2, 1, 0] (L' := [(0, cz_r l0), (1, cz_r r19), (2, cz_i 1)]) rfl (wk_X1_snap_18 S ?_ 1000 1 h)
      · intro h25
        refine ct_aload_n (k := 0) S dX1_snap_44 rfl rfl ?_
        refine ct_getR S fw_X1_49 dX1_snap_45 (fun r26 => ?_)
        refine ct_bipush (v := 7) S dX1_snap_48 kB_7 ?_
        refine ct_aload_n (k := 1) S dX1_snap_50 rfl rfl ?_
        refine ct_aast S dX1_snap_51 (fun h27 => ?_)
        refine ct_aload_n (k := 0) S dX1_snap_52 rfl rfl ?_
        refine ct_dup S dX1_snap_53 rfl ?_
        refine ct_getI S fw_X1_105 dX1_snap_54 (fun x28 => ?_)
        refine ct_iconst (v := 1) S dX1_snap_57 kI_1 ?_
        refine ct_isub S dX1_snap_58 ?_
        refine ct_put S fw_X1_105 fp_X1_m_0_8 (cz_fits_i pd_I) dX1_snap_59 (fun h29 => ?_)
        exact ct_sub [0] rfl (Hj17 h29)
theorem mt_X1_snap {l : Launch} {D : cz_D} {l0 : Option Nat} {h : cz_H} {oh : cz_O × cz_H} (hz : fn_X1_snap l0 h = some oh) : cz_M l D yX1_snap (ws_ yX1_snap cX1_snap 3 ((Option.none : Option Jvm.ClassFile.FieldType))) 4 [cz_r l0] h oh := cz_met (plainFor_of_name (by decide)) (Nat.le_of_ble_eq_true rfl) hz (fun K hl S => wk_X1_snap S)
/-! HeldCoats$Reign.passAll(I)I -/
def dkwX3_passAll_0 : List UInt8 := [3, 61, 28, 27, 162, 0, 16, 42, 182, 0, 185, 153, 0, 9, 132, 2, 1, 167, 255, 241, 28, 172]
abbrev dktX3_passAll_0 : List UInt8 := dkwX3_passAll_0 ++ []
theorem dksX3_passAll_0 : cX3_passAll.data.toList.drop 0 = dktX3_passAll_0 := by decide +kernel
theorem dX3_passAll_0 : decode cX3_passAll 0 = .ok (.iconst 0, 1) := dk_3 (dk_at dksX3_passAll_0 0 rfl rfl)
theorem dX3_passAll_1 : decode cX3_passAll 1 = .ok (.istore_n 2, 1) := dk_61 (dk_at dksX3_passAll_0 1 rfl rfl)
theorem dX3_passAll_2 : decode cX3_passAll 2 = .ok (.iload_n 2, 1) := dk_28 (dk_at dksX3_passAll_0 2 rfl rfl)
theorem dX3_passAll_3 : decode cX3_passAll 3 = .ok (.iload_n 1, 1) := dk_27 (dk_at dksX3_passAll_0 3 rfl rfl)
theorem dX3_passAll_4 : decode cX3_passAll 4 = .ok (.if_icmp .ge 16, 3) := dk_162 0 16 (dk_at dksX3_passAll_0 4 rfl rfl)
theorem dX3_passAll_7 : decode cX3_passAll 7 = .ok (.aload_n 0, 1) := dk_42 (dk_at dksX3_passAll_0 7 rfl rfl)
theorem dX3_passAll_8 : decode cX3_passAll 8 = .ok (.invokevirtual 185, 3) := dk_182 0 185 (dk_at dksX3_passAll_0 8 rfl rfl)
theorem dX3_passAll_11 : decode cX3_passAll 11 = .ok (.ifCond .eq 9, 3) := dk_153 0 9 (dk_at dksX3_passAll_0 11 rfl rfl)
theorem dX3_passAll_14 : decode cX3_passAll 14 = .ok (.iinc 2 1, 3) := dk_132 2 1 (dk_at dksX3_passAll_0 14 rfl rfl)
theorem dX3_passAll_17 : decode cX3_passAll 17 = .ok (.goto (-15), 3) := dk_167 255 241 (dk_at dksX3_passAll_0 17 rfl rfl)
theorem dX3_passAll_20 : decode cX3_passAll 20 = .ok (.iload_n 2, 1) := dk_28 (dk_at dksX3_passAll_0 20 rfl rfl)
theorem dX3_passAll_21 : decode cX3_passAll 21 = .ok (.ireturn, 1) := dk_172 (dk_at dksX3_passAll_0 21 rfl rfl)
set_option maxHeartbeats 4000000 in
set_option maxRecDepth 100000 in
noncomputable def fn_X3_passAll_2 (l0 : Option Nat) (l1 : Int32) (k0 : Int32 → cz_H → cz_Z) : Nat → Int32 → cz_H → cz_Z
  | 0, _, _ => none
  | n + 1, l2, h => (if l1 ≤ l2 then k0 l2 h else cz_rc h l0 [3] (cz_cI (fn_X3_pass l0 h) (fun x8 h7 => (if x8 = 0 then k0 l2 h7 else cz_leti (l2 + 1) (fun x9 => fn_X3_passAll_2 l0 l1 k0 n x9 h7)))))
set_option maxHeartbeats 4000000 in
set_option maxRecDepth 100000 in
theorem wk_X3_passAll_2 {K : cz_K} {D : cz_D} {h0 : cz_H} {oh : cz_O × cz_H} {l0 : Option Nat} {l1 : Int32} {k0 : Int32 → cz_H → cz_Z} (S : cz_S K D h0 cX3_passAll 3 "HeldCoats$Reign" ((Option.some Jvm.ClassFile.FieldType.int)) "passAll" ([])) (hk0 : ∀ (e2 : Int32) (h : cz_H), cz_T K D 10 h0 oh 3 (k0 e2 h) h 20 [(2, cz_i e2)] []) : ∀ (n : Nat) (l2 : Int32) (h : cz_H), cz_T K D 10 h0 oh 3 (fn_X3_passAll_2 l0 l1 k0 n l2 h) h 2 [(0, cz_r l0), (1, cz_i l1), (2, cz_i l2)] [] := by
  intro n
  induction n with
  | zero => intros; exact ct_none
  | succ n ih =>
    intro l2 h
    rw [fn_X3_passAll_2]
    refine ct_iload_n (k := 2) S dX3_passAll_2 rfl rfl ?_
    refine ct_iload_n (k := 1) S dX3_passAll_3 rfl rfl ?_
    refine ct_icmp_ge (tgt := 20) S dX3_passAll_4 (by decide) ?_ ?_
    · exact ct_sub [2] rfl (hk0 l2 h)
    · refine ct_aload_n (k := 0) S dX3_passAll_7 rfl rfl ?_
      refine ct_rc (fun b1 ci2 V3 hb4 hc5 hi6 => ?_)
      refine ct_cI (st := []) (cg_virtual (av := []) S hb4 hc5 hi6 (fun _ e => mt_X3_pass e) md_X3_pass q1208 q1209 se_HeldCoats_Reign_pass___Z_HeldCoats_Reign (by decide) (Nat.le_of_ble_eq_true rfl) rfl dX3_passAll_8) (fun x8 h7 => ?_)
      refine ct_if_eq (tgt := 20) S dX3_passAll_11 (by decide) ?_ ?_
      · exact ct_sub [2] rfl (hk0 l2 h7)
      · refine ct_iincL (j := 2) (L2 := fun x9 => [(2, cz_i x9), (0, cz_r l0), (1, cz_i l1)]) S dX3_passAll_14 rfl kI_1 (by decide) (fun _ => rfl) (fun x9 => ?_)
        refine ct_goto (tgt := 2) S dX3_passAll_17 (by decide) ?_
        exact ct_sub [1, 2, 0] rfl (ih x9 h7)
set_option maxHeartbeats 4000000 in
set_option maxRecDepth 100000 in
noncomputable def fn_X3_passAll (l0 : Option Nat) (l1 : Int32) (h : cz_H) : cz_Z := fn_X3_passAll_2 l0 l1 (fun (e10 : Int32) (h11 : cz_H) => some (.inl (some (cz_i e10)), h11)) 1000 0 h
set_option maxHeartbeats 4000000 in
set_option maxRecDepth 100000 in
theorem wk_X3_passAll {K : cz_K} {D : cz_D} {h0 : cz_H} {oh : cz_O × cz_H} {l0 : Option Nat} {l1 : Int32} {h : cz_H} (S : cz_S K D h0 cX3_passAll 3 "HeldCoats$Reign" ((Option.some Jvm.ClassFile.FieldType.int)) "passAll" ([])) : cz_T K D 10 h0 oh 3 (fn_X3_passAll l0 l1 h) h 0 [(0, cz_r l0), (1, cz_i l1)] [] := by
  unfold fn_X3_passAll
  refine ct_iconst (v := 0) S dX3_passAll_0 kI_0 ?_
  refine ct_istore_n (L' := [(2, cz_i 0), (0, cz_r l0), (1, cz_i l1)]) S dX3_passAll_1 rfl (by decide) rfl ?_
  refine ct_sub [1, 2, 0] (L' := [(0, cz_r l0), (1, cz_i l1), (2, cz_i 0)]) rfl (wk_X3_passAll_2 S ?_ 1000 0 h)
  · intro e10 h11
    refine ct_iload_n (k := 0) S dX3_passAll_20 rfl rfl ?_
    exact ct_iret S rfl dX3_passAll_21
theorem mt_X3_passAll {l : Launch} {D : cz_D} {l0 : Option Nat} {l1 : Int32} {h : cz_H} {oh : cz_O × cz_H} (hz : fn_X3_passAll l0 l1 h = some oh) : cz_M l D yX3_passAll (ws_ yX3_passAll cX3_passAll 3 ((Option.some Jvm.ClassFile.FieldType.int))) 10 [cz_r l0, cz_i l1] h oh := cz_met (plainFor_of_name (by decide)) (Nat.le_of_ble_eq_true rfl) hz (fun K hl S => wk_X3_passAll S)
/-! HeldCoats$Days.does(LHeldCoats$Reign;)I -/
def dkwX20_does_1 : List UInt8 := [182, 0, 20, 87, 3, 172]
abbrev dktX20_does_1 : List UInt8 := dkwX20_does_1 ++ []
def dkwX20_does_0 : List UInt8 := [43, 180, 0, 15, 42, 180, 0, 9, 96, 17, 1, 144, 164, 0, 6, 16, 41, 172, 43, 42, 180, 0, 9]
abbrev dktX20_does_0 : List UInt8 := dkwX20_does_0 ++ dktX20_does_1
theorem dksX20_does_0 : cX20_does.data.toList.drop 0 = dktX20_does_0 := by decide +kernel
theorem dksX20_does_1 : cX20_does.data.toList.drop 23 = dktX20_does_1 := dk_seg dksX20_does_0 23 rfl rfl
theorem dX20_does_0 : decode cX20_does 0 = .ok (.aload_n 1, 1) := dk_43 (dk_at dksX20_does_0 0 rfl rfl)
theorem dX20_does_1 : decode cX20_does 1 = .ok (.getfield 15, 3) := dk_180 0 15 (dk_at dksX20_does_0 1 rfl rfl)
theorem dX20_does_4 : decode cX20_does 4 = .ok (.aload_n 0, 1) := dk_42 (dk_at dksX20_does_0 4 rfl rfl)
theorem dX20_does_5 : decode cX20_does 5 = .ok (.getfield 9, 3) := dk_180 0 9 (dk_at dksX20_does_0 5 rfl rfl)
theorem dX20_does_8 : decode cX20_does 8 = .ok (.iadd, 1) := dk_96 (dk_at dksX20_does_0 8 rfl rfl)
theorem dX20_does_9 : decode cX20_does 9 = .ok (.sipush 400, 3) := dk_17 1 144 (dk_at dksX20_does_0 9 rfl rfl)
theorem dX20_does_12 : decode cX20_does 12 = .ok (.if_icmp .le 6, 3) := dk_164 0 6 (dk_at dksX20_does_0 12 rfl rfl)
theorem dX20_does_15 : decode cX20_does 15 = .ok (.bipush 41, 2) := dk_16 41 (dk_at dksX20_does_0 15 rfl rfl)
theorem dX20_does_17 : decode cX20_does 17 = .ok (.ireturn, 1) := dk_172 (dk_at dksX20_does_0 17 rfl rfl)
theorem dX20_does_18 : decode cX20_does 18 = .ok (.aload_n 1, 1) := dk_43 (dk_at dksX20_does_0 18 rfl rfl)
theorem dX20_does_19 : decode cX20_does 19 = .ok (.aload_n 0, 1) := dk_42 (dk_at dksX20_does_0 19 rfl rfl)
theorem dX20_does_20 : decode cX20_does 20 = .ok (.getfield 9, 3) := dk_180 0 9 (dk_at dksX20_does_0 20 rfl rfl)
theorem dX20_does_23 : decode cX20_does 23 = .ok (.invokevirtual 20, 3) := dk_182 0 20 (dk_at dksX20_does_1 0 rfl rfl)
theorem dX20_does_26 : decode cX20_does 26 = .ok (.pop, 1) := dk_87 (dk_at dksX20_does_1 3 rfl rfl)
theorem dX20_does_27 : decode cX20_does 27 = .ok (.iconst 0, 1) := dk_3 (dk_at dksX20_does_1 4 rfl rfl)
theorem dX20_does_28 : decode cX20_does 28 = .ok (.ireturn, 1) := dk_172 (dk_at dksX20_does_1 5 rfl rfl)
theorem fw_X20_15 : cz_FW "HeldCoats$Days" 15 [(3, 1)] "I" := ⟨"HeldCoats$Reign", "day", Or.inr ⟨_, q272⟩, List.forall_mem_cons.mpr ⟨⟨RX3, TX3, 14, rfl, by decide, rfl, rfl, Or.inl rfl⟩, fun _ h => absurd h List.not_mem_nil⟩, by decide⟩
theorem se_HeldCoats_Reign_passAll__I_I_HeldCoats_Reign : ∀ c ∈ ([3] : List Nat), ∃ q : vw_C, cz_cl[c]? = some q ∧ Cond.selects q.1 (⟨"HeldCoats$Reign", "passAll", "(I)I"⟩ : MethodName) (⟨"HeldCoats$Reign", "passAll", "(I)I"⟩ : MethodName) ∈ lw_all := List.forall_mem_cons.mpr ⟨⟨_, cz_cl3, q1206⟩, fun _ h => absurd h List.not_mem_nil⟩
theorem md_X3_passAll : cz_md yX3_passAll 3 (ws_ yX3_passAll cX3_passAll 3 ((Option.some Jvm.ClassFile.FieldType.int))) 1 := ⟨cz_ws_code q1207, q118, ⟨by decide, by decide, by decide +kernel⟩, by decide⟩
set_option maxHeartbeats 4000000 in
set_option maxRecDepth 100000 in
noncomputable def fn_X20_does (l0 : Option Nat) (l1 : Option Nat) (h : cz_H) : cz_Z := cz_getI h l1 [(3, 1)] (fun x1 => cz_getI h l0 [(17, 0)] (fun x2 => (if (x1 + x2) ≤ 400 then cz_getI h l0 [(17, 0)] (fun x3 => cz_rc h l1 [3] (cz_cI (fn_X3_passAll l1 x3 h) (fun x11 h10 => some (.inl (some (cz_i 0)), h10)))) else some (.inl (some (cz_i 41)), h))))
set_option maxHeartbeats 4000000 in
set_option maxRecDepth 100000 in
theorem wk_X20_does {K : cz_K} {D : cz_D} {h0 : cz_H} {oh : cz_O × cz_H} {l0 : Option Nat} {l1 : Option Nat} {h : cz_H} (S : cz_S K D h0 cX20_does 2 "HeldCoats$Days" ((Option.some Jvm.ClassFile.FieldType.int)) "does" ([])) : cz_T K D 11 h0 oh 2 (fn_X20_does l0 l1 h) h 0 [(0, cz_r l0), (1, cz_r l1)] [] := by
  unfold fn_X20_does
  refine ct_aload_n (k := 1) S dX20_does_0 rfl rfl ?_
  refine ct_getI S fw_X20_15 dX20_does_1 (fun x1 => ?_)
  refine ct_aload_n (k := 0) S dX20_does_4 rfl rfl ?_
  refine ct_getI S fw_X20_9 dX20_does_5 (fun x2 => ?_)
  refine ct_iadd S dX20_does_8 ?_
  refine ct_sipush (v := 400) S dX20_does_9 kS_400 ?_
  refine ct_icmp_le (tgt := 18) S dX20_does_12 (by decide) ?_ ?_
  · refine ct_aload_n (k := 1) S dX20_does_18 rfl rfl ?_
    refine ct_aload_n (k := 0) S dX20_does_19 rfl rfl ?_
    refine ct_getI S fw_X20_9 dX20_does_20 (fun x3 => ?_)
    refine ct_rc (fun b4 ci5 V6 hb7 hc8 hi9 => ?_)
    refine ct_cI (st := []) (cg_virtual (av := [cz_i x3]) S hb7 hc8 hi9 (fun _ e => mt_X3_passAll e) md_X3_passAll q1204 q1205 se_HeldCoats_Reign_passAll__I_I_HeldCoats_Reign (by decide) (Nat.le_of_ble_eq_true rfl) rfl dX20_does_23) (fun x11 h10 => ?_)
    refine ct_pop S dX20_does_26 rfl ?_
    refine ct_iconst (v := 0) S dX20_does_27 kI_0 ?_
    exact ct_iret S rfl dX20_does_28
  · refine ct_bipush (v := 41) S dX20_does_15 kB_41 ?_
    exact ct_iret S rfl dX20_does_17
theorem mt_X20_does {l : Launch} {D : cz_D} {l0 : Option Nat} {l1 : Option Nat} {h : cz_H} {oh : cz_O × cz_H} (hz : fn_X20_does l0 l1 h = some oh) : cz_M l D yX20_does (ws_ yX20_does cX20_does 2 ((Option.some Jvm.ClassFile.FieldType.int))) 11 [cz_r l0, cz_r l1] h oh := cz_met (plainFor_of_name (by decide)) (Nat.le_of_ble_eq_true rfl) hz (fun K hl S => wk_X20_does S)
/-! #does -/
theorem dc_does_12 : cz_DC ⟨"HeldCoats$Act", "does", "(LHeldCoats$Reign;)I"⟩ yX15_does 12 cX15_does 3 ((Option.some Jvm.ClassFile.FieldType.int)) := ⟨⟨_, cz_cl12, q1259⟩, q1261, q1260, q145, by decide⟩
theorem dc_does_13 : cz_DC ⟨"HeldCoats$Act", "does", "(LHeldCoats$Reign;)I"⟩ yX18_does 13 cX18_does 3 ((Option.some Jvm.ClassFile.FieldType.int)) := ⟨⟨_, cz_cl13, q1284⟩, q1286, q1285, q148, by decide⟩
theorem dc_does_14 : cz_DC ⟨"HeldCoats$Act", "does", "(LHeldCoats$Reign;)I"⟩ yX16_does 14 cX16_does 3 ((Option.some Jvm.ClassFile.FieldType.int)) := ⟨⟨_, cz_cl14, q1248⟩, q1250, q1249, q146, by decide⟩
theorem dc_does_15 : cz_DC ⟨"HeldCoats$Act", "does", "(LHeldCoats$Reign;)I"⟩ yX17_does 15 cX17_does 3 ((Option.some Jvm.ClassFile.FieldType.int)) := ⟨⟨_, cz_cl15, q1274⟩, q1276, q1275, q147, by decide⟩
theorem dc_does_17 : cz_DC ⟨"HeldCoats$Act", "does", "(LHeldCoats$Reign;)I"⟩ yX20_does 17 cX20_does 2 ((Option.some Jvm.ClassFile.FieldType.int)) := ⟨⟨_, cz_cl17, q1201⟩, q1203, q1202, q151, by decide⟩
noncomputable def fn_disp_does (r R : Option Nat) (h : cz_H) : cz_Z := cz_by h r (fun ci => if ci = 12 then fn_X15_does r R h else if ci = 13 then fn_X18_does r R h else if ci = 14 then fn_X16_does r R h else if ci = 15 then fn_X17_does r R h else if ci = 17 then fn_X20_does r R h else none)
set_option maxHeartbeats 4000000 in
set_option maxRecDepth 100000 in
theorem mt_disp_does {l : Launch} {D : cz_D} {r R : Option Nat} {h : cz_H} {oh : cz_O × cz_H} (hz : fn_disp_does r R h = some oh) : cz_DM l D ⟨"HeldCoats$Act", "does", "(LHeldCoats$Reign;)I"⟩ 11 r [cz_r R] h oh := by
  obtain ⟨b, ci, V, hr, hc, hz⟩ := cz_byI hz
  split at hz
  · rename_i e9
    subst e9
    exact ⟨b, 12, V, _, _, _, _, hr, hc, dc_does_12, mt_X15_does hz⟩
  split at hz
  · rename_i e9
    subst e9
    exact ⟨b, 13, V, _, _, _, _, hr, hc, dc_does_13, mt_X18_does hz⟩
  split at hz
  · rename_i e9
    subst e9
    exact ⟨b, 14, V, _, _, _, _, hr, hc, dc_does_14, mt_X16_does hz⟩
  split at hz
  · rename_i e9
    subst e9
    exact ⟨b, 15, V, _, _, _, _, hr, hc, dc_does_15, mt_X17_does hz⟩
  split at hz
  · rename_i e9
    subst e9
    exact ⟨b, 17, V, _, _, _, _, hr, hc, dc_does_17, mt_X20_does hz⟩
  cases hz
/-! HeldCoats.lived(Ljava/util/ArrayList;Z)I -/
def dkwX1_lived_6 : List UInt8 := [21, 4, 172]
abbrev dktX1_lived_6 : List UInt8 := dkwX1_lived_6 ++ []
def dkwX1_lived_5 : List UInt8 := [182, 0, 242, 42, 180, 0, 42, 42, 180, 0, 46, 182, 0, 232, 87, 29, 154, 0, 7, 2, 167, 0, 5]
abbrev dktX1_lived_5 : List UInt8 := dkwX1_lived_5 ++ dktX1_lived_6
def dkwX1_lived_4 : List UInt8 := [180, 0, 223, 42, 180, 0, 42, 180, 0, 223, 100, 79, 28, 153, 0, 24, 21, 4, 158, 0, 19, 42]
abbrev dktX1_lived_4 : List UInt8 := dkwX1_lived_4 ++ dktX1_lived_5
def dkwX1_lived_3 : List UInt8 := [79, 42, 180, 0, 68, 5, 42, 180, 0, 46, 180, 0, 15, 79, 42, 180, 0, 68, 6, 42, 180, 0, 46]
abbrev dktX1_lived_3 : List UInt8 := dkwX1_lived_3 ++ dktX1_lived_4
def dkwX1_lived_2 : List UInt8 := [29, 154, 255, 225, 132, 4, 1, 167, 255, 219, 42, 180, 0, 68, 3, 29, 79, 42, 180, 0, 68, 4, 21, 4]
abbrev dktX1_lived_2 : List UInt8 := dkwX1_lived_2 ++ dktX1_lived_3
def dkwX1_lived_1 : List UInt8 := [162, 0, 34, 29, 154, 0, 30, 43, 21, 4, 182, 0, 146, 192, 0, 237, 42, 180, 0, 46, 182, 0, 236, 62]
abbrev dktX1_lived_1 : List UInt8 := dkwX1_lived_1 ++ dktX1_lived_2
def dkwX1_lived_0 : List UInt8 := [42, 180, 0, 46, 42, 180, 0, 42, 182, 0, 232, 87, 3, 62, 3, 54, 4, 21, 4, 43, 182, 0, 134]
abbrev dktX1_lived_0 : List UInt8 := dkwX1_lived_0 ++ dktX1_lived_1
theorem dksX1_lived_0 : cX1_lived.data.toList.drop 0 = dktX1_lived_0 := by decide +kernel
theorem dksX1_lived_1 : cX1_lived.data.toList.drop 23 = dktX1_lived_1 := dk_seg dksX1_lived_0 23 rfl rfl
theorem dksX1_lived_2 : cX1_lived.data.toList.drop 47 = dktX1_lived_2 := dk_seg dksX1_lived_1 24 rfl rfl
theorem dksX1_lived_3 : cX1_lived.data.toList.drop 71 = dktX1_lived_3 := dk_seg dksX1_lived_2 24 rfl rfl
theorem dksX1_lived_4 : cX1_lived.data.toList.drop 94 = dktX1_lived_4 := dk_seg dksX1_lived_3 23 rfl rfl
theorem dksX1_lived_5 : cX1_lived.data.toList.drop 116 = dktX1_lived_5 := dk_seg dksX1_lived_4 22 rfl rfl
theorem dksX1_lived_6 : cX1_lived.data.toList.drop 139 = dktX1_lived_6 := dk_seg dksX1_lived_5 23 rfl rfl
theorem dX1_lived_0 : decode cX1_lived 0 = .ok (.aload_n 0, 1) := dk_42 (dk_at dksX1_lived_0 0 rfl rfl)
theorem dX1_lived_1 : decode cX1_lived 1 = .ok (.getfield 46, 3) := dk_180 0 46 (dk_at dksX1_lived_0 1 rfl rfl)
theorem dX1_lived_4 : decode cX1_lived 4 = .ok (.aload_n 0, 1) := dk_42 (dk_at dksX1_lived_0 4 rfl rfl)
theorem dX1_lived_5 : decode cX1_lived 5 = .ok (.getfield 42, 3) := dk_180 0 42 (dk_at dksX1_lived_0 5 rfl rfl)
theorem dX1_lived_8 : decode cX1_lived 8 = .ok (.invokevirtual 232, 3) := dk_182 0 232 (dk_at dksX1_lived_0 8 rfl rfl)
theorem dX1_lived_11 : decode cX1_lived 11 = .ok (.pop, 1) := dk_87 (dk_at dksX1_lived_0 11 rfl rfl)
theorem dX1_lived_12 : decode cX1_lived 12 = .ok (.iconst 0, 1) := dk_3 (dk_at dksX1_lived_0 12 rfl rfl)
theorem dX1_lived_13 : decode cX1_lived 13 = .ok (.istore_n 3, 1) := dk_62 (dk_at dksX1_lived_0 13 rfl rfl)
theorem dX1_lived_14 : decode cX1_lived 14 = .ok (.iconst 0, 1) := dk_3 (dk_at dksX1_lived_0 14 rfl rfl)
theorem dX1_lived_15 : decode cX1_lived 15 = .ok (.istore 4, 2) := dk_54 4 (dk_at dksX1_lived_0 15 rfl rfl)
theorem dX1_lived_17 : decode cX1_lived 17 = .ok (.iload 4, 2) := dk_21 4 (dk_at dksX1_lived_0 17 rfl rfl)
theorem dX1_lived_19 : decode cX1_lived 19 = .ok (.aload_n 1, 1) := dk_43 (dk_at dksX1_lived_0 19 rfl rfl)
theorem dX1_lived_20 : decode cX1_lived 20 = .ok (.invokevirtual 134, 3) := dk_182 0 134 (dk_at dksX1_lived_0 20 rfl rfl)
theorem dX1_lived_23 : decode cX1_lived 23 = .ok (.if_icmp .ge 34, 3) := dk_162 0 34 (dk_at dksX1_lived_1 0 rfl rfl)
theorem dX1_lived_26 : decode cX1_lived 26 = .ok (.iload_n 3, 1) := dk_29 (dk_at dksX1_lived_1 3 rfl rfl)
theorem dX1_lived_27 : decode cX1_lived 27 = .ok (.ifCond .ne 30, 3) := dk_154 0 30 (dk_at dksX1_lived_1 4 rfl rfl)
theorem dX1_lived_30 : decode cX1_lived 30 = .ok (.aload_n 1, 1) := dk_43 (dk_at dksX1_lived_1 7 rfl rfl)
theorem dX1_lived_31 : decode cX1_lived 31 = .ok (.iload 4, 2) := dk_21 4 (dk_at dksX1_lived_1 8 rfl rfl)
theorem dX1_lived_33 : decode cX1_lived 33 = .ok (.invokevirtual 146, 3) := dk_182 0 146 (dk_at dksX1_lived_1 10 rfl rfl)
theorem dX1_lived_36 : decode cX1_lived 36 = .ok (.checkcast 237, 3) := dk_192 0 237 (dk_at dksX1_lived_1 13 rfl rfl)
theorem dX1_lived_39 : decode cX1_lived 39 = .ok (.aload_n 0, 1) := dk_42 (dk_at dksX1_lived_1 16 rfl rfl)
theorem dX1_lived_40 : decode cX1_lived 40 = .ok (.getfield 46, 3) := dk_180 0 46 (dk_at dksX1_lived_1 17 rfl rfl)
theorem dX1_lived_43 : decode cX1_lived 43 = .ok (.invokevirtual 236, 3) := dk_182 0 236 (dk_at dksX1_lived_1 20 rfl rfl)
theorem dX1_lived_46 : decode cX1_lived 46 = .ok (.istore_n 3, 1) := dk_62 (dk_at dksX1_lived_1 23 rfl rfl)
theorem dX1_lived_47 : decode cX1_lived 47 = .ok (.iload_n 3, 1) := dk_29 (dk_at dksX1_lived_2 0 rfl rfl)
theorem dX1_lived_48 : decode cX1_lived 48 = .ok (.ifCond .ne (-31), 3) := dk_154 255 225 (dk_at dksX1_lived_2 1 rfl rfl)
theorem dX1_lived_51 : decode cX1_lived 51 = .ok (.iinc 4 1, 3) := dk_132 4 1 (dk_at dksX1_lived_2 4 rfl rfl)
theorem dX1_lived_54 : decode cX1_lived 54 = .ok (.goto (-37), 3) := dk_167 255 219 (dk_at dksX1_lived_2 7 rfl rfl)
theorem dX1_lived_57 : decode cX1_lived 57 = .ok (.aload_n 0, 1) := dk_42 (dk_at dksX1_lived_2 10 rfl rfl)
theorem dX1_lived_58 : decode cX1_lived 58 = .ok (.getfield 68, 3) := dk_180 0 68 (dk_at dksX1_lived_2 11 rfl rfl)
theorem dX1_lived_61 : decode cX1_lived 61 = .ok (.iconst 0, 1) := dk_3 (dk_at dksX1_lived_2 14 rfl rfl)
theorem dX1_lived_62 : decode cX1_lived 62 = .ok (.iload_n 3, 1) := dk_29 (dk_at dksX1_lived_2 15 rfl rfl)
theorem dX1_lived_63 : decode cX1_lived 63 = .ok (.iastore, 1) := dk_79 (dk_at dksX1_lived_2 16 rfl rfl)
theorem dX1_lived_64 : decode cX1_lived 64 = .ok (.aload_n 0, 1) := dk_42 (dk_at dksX1_lived_2 17 rfl rfl)
theorem dX1_lived_65 : decode cX1_lived 65 = .ok (.getfield 68, 3) := dk_180 0 68 (dk_at dksX1_lived_2 18 rfl rfl)
theorem dX1_lived_68 : decode cX1_lived 68 = .ok (.iconst 1, 1) := dk_4 (dk_at dksX1_lived_2 21 rfl rfl)
theorem dX1_lived_69 : decode cX1_lived 69 = .ok (.iload 4, 2) := dk_21 4 (dk_at dksX1_lived_2 22 rfl rfl)
theorem dX1_lived_71 : decode cX1_lived 71 = .ok (.iastore, 1) := dk_79 (dk_at dksX1_lived_3 0 rfl rfl)
theorem dX1_lived_72 : decode cX1_lived 72 = .ok (.aload_n 0, 1) := dk_42 (dk_at dksX1_lived_3 1 rfl rfl)
theorem dX1_lived_73 : decode cX1_lived 73 = .ok (.getfield 68, 3) := dk_180 0 68 (dk_at dksX1_lived_3 2 rfl rfl)
theorem dX1_lived_76 : decode cX1_lived 76 = .ok (.iconst 2, 1) := dk_5 (dk_at dksX1_lived_3 5 rfl rfl)
theorem dX1_lived_77 : decode cX1_lived 77 = .ok (.aload_n 0, 1) := dk_42 (dk_at dksX1_lived_3 6 rfl rfl)
theorem dX1_lived_78 : decode cX1_lived 78 = .ok (.getfield 46, 3) := dk_180 0 46 (dk_at dksX1_lived_3 7 rfl rfl)
theorem dX1_lived_81 : decode cX1_lived 81 = .ok (.getfield 15, 3) := dk_180 0 15 (dk_at dksX1_lived_3 10 rfl rfl)
theorem dX1_lived_84 : decode cX1_lived 84 = .ok (.iastore, 1) := dk_79 (dk_at dksX1_lived_3 13 rfl rfl)
theorem dX1_lived_85 : decode cX1_lived 85 = .ok (.aload_n 0, 1) := dk_42 (dk_at dksX1_lived_3 14 rfl rfl)
theorem dX1_lived_86 : decode cX1_lived 86 = .ok (.getfield 68, 3) := dk_180 0 68 (dk_at dksX1_lived_3 15 rfl rfl)
theorem dX1_lived_89 : decode cX1_lived 89 = .ok (.iconst 3, 1) := dk_6 (dk_at dksX1_lived_3 18 rfl rfl)
theorem dX1_lived_90 : decode cX1_lived 90 = .ok (.aload_n 0, 1) := dk_42 (dk_at dksX1_lived_3 19 rfl rfl)
theorem dX1_lived_91 : decode cX1_lived 91 = .ok (.getfield 46, 3) := dk_180 0 46 (dk_at dksX1_lived_3 20 rfl rfl)
theorem dX1_lived_94 : decode cX1_lived 94 = .ok (.getfield 223, 3) := dk_180 0 223 (dk_at dksX1_lived_4 0 rfl rfl)
theorem dX1_lived_97 : decode cX1_lived 97 = .ok (.aload_n 0, 1) := dk_42 (dk_at dksX1_lived_4 3 rfl rfl)
theorem dX1_lived_98 : decode cX1_lived 98 = .ok (.getfield 42, 3) := dk_180 0 42 (dk_at dksX1_lived_4 4 rfl rfl)
theorem dX1_lived_101 : decode cX1_lived 101 = .ok (.getfield 223, 3) := dk_180 0 223 (dk_at dksX1_lived_4 7 rfl rfl)
theorem dX1_lived_104 : decode cX1_lived 104 = .ok (.isub, 1) := dk_100 (dk_at dksX1_lived_4 10 rfl rfl)
theorem dX1_lived_105 : decode cX1_lived 105 = .ok (.iastore, 1) := dk_79 (dk_at dksX1_lived_4 11 rfl rfl)
theorem dX1_lived_106 : decode cX1_lived 106 = .ok (.iload_n 2, 1) := dk_28 (dk_at dksX1_lived_4 12 rfl rfl)
theorem dX1_lived_107 : decode cX1_lived 107 = .ok (.ifCond .eq 24, 3) := dk_153 0 24 (dk_at dksX1_lived_4 13 rfl rfl)
theorem dX1_lived_110 : decode cX1_lived 110 = .ok (.iload 4, 2) := dk_21 4 (dk_at dksX1_lived_4 16 rfl rfl)
theorem dX1_lived_112 : decode cX1_lived 112 = .ok (.ifCond .le 19, 3) := dk_158 0 19 (dk_at dksX1_lived_4 18 rfl rfl)
theorem dX1_lived_115 : decode cX1_lived 115 = .ok (.aload_n 0, 1) := dk_42 (dk_at dksX1_lived_4 21 rfl rfl)
theorem dX1_lived_116 : decode cX1_lived 116 = .ok (.invokevirtual 242, 3) := dk_182 0 242 (dk_at dksX1_lived_5 0 rfl rfl)
theorem dX1_lived_119 : decode cX1_lived 119 = .ok (.aload_n 0, 1) := dk_42 (dk_at dksX1_lived_5 3 rfl rfl)
theorem dX1_lived_120 : decode cX1_lived 120 = .ok (.getfield 42, 3) := dk_180 0 42 (dk_at dksX1_lived_5 4 rfl rfl)
theorem dX1_lived_123 : decode cX1_lived 123 = .ok (.aload_n 0, 1) := dk_42 (dk_at dksX1_lived_5 7 rfl rfl)
theorem dX1_lived_124 : decode cX1_lived 124 = .ok (.getfield 46, 3) := dk_180 0 46 (dk_at dksX1_lived_5 8 rfl rfl)
theorem dX1_lived_127 : decode cX1_lived 127 = .ok (.invokevirtual 232, 3) := dk_182 0 232 (dk_at dksX1_lived_5 11 rfl rfl)
theorem dX1_lived_130 : decode cX1_lived 130 = .ok (.pop, 1) := dk_87 (dk_at dksX1_lived_5 14 rfl rfl)
theorem dX1_lived_131 : decode cX1_lived 131 = .ok (.iload_n 3, 1) := dk_29 (dk_at dksX1_lived_5 15 rfl rfl)
theorem dX1_lived_132 : decode cX1_lived 132 = .ok (.ifCond .ne 7, 3) := dk_154 0 7 (dk_at dksX1_lived_5 16 rfl rfl)
theorem dX1_lived_135 : decode cX1_lived 135 = .ok (.iconst (-1), 1) := dk_2 (dk_at dksX1_lived_5 19 rfl rfl)
theorem dX1_lived_136 : decode cX1_lived 136 = .ok (.goto 5, 3) := dk_167 0 5 (dk_at dksX1_lived_5 20 rfl rfl)
theorem dX1_lived_139 : decode cX1_lived 139 = .ok (.iload 4, 2) := dk_21 4 (dk_at dksX1_lived_6 0 rfl rfl)
theorem dX1_lived_141 : decode cX1_lived 141 = .ok (.ireturn, 1) := dk_172 (dk_at dksX1_lived_6 2 rfl rfl)
theorem fw_X1_68 : cz_FW "HeldCoats" 68 [(0, 16)] "[I" := ⟨"HeldCoats", "told", Or.inl q396, List.forall_mem_cons.mpr ⟨⟨RX1, TX1, 18, rfl, by decide, rfl, rfl, Or.inl rfl⟩, fun _ h => absurd h List.not_mem_nil⟩, by decide⟩
theorem fw_X1_223 : cz_FW "HeldCoats" 223 [(3, 2)] "I" := ⟨"HeldCoats$Reign", "bares", Or.inr ⟨_, q276⟩, List.forall_mem_cons.mpr ⟨⟨RX3, TX3, 14, rfl, by decide, rfl, rfl, Or.inl rfl⟩, fun _ h => absurd h List.not_mem_nil⟩, by decide⟩
theorem ca_HeldCoats_Act : cz_cs [12, 13, 14, 15, 17] "HeldCoats$Act" := List.forall_mem_cons.mpr ⟨⟨_, cz_cl12, Or.inr q2538⟩, List.forall_mem_cons.mpr ⟨⟨_, cz_cl13, Or.inr q2540⟩, List.forall_mem_cons.mpr ⟨⟨_, cz_cl14, Or.inr q2537⟩, List.forall_mem_cons.mpr ⟨⟨_, cz_cl15, Or.inr q2539⟩, List.forall_mem_cons.mpr ⟨⟨_, cz_cl17, Or.inr q2536⟩, fun _ h => absurd h List.not_mem_nil⟩⟩⟩⟩⟩
theorem nh_HeldCoats_Act_does__LHeldCoats_Reign__I : cz_nh ⟨"HeldCoats$Act", "does", "(LHeldCoats$Reign;)I"⟩ 1 := ⟨by decide, by decide, by decide +kernel⟩
theorem se_HeldCoats_snap___V_HeldCoats : ∀ c ∈ ([0] : List Nat), ∃ q : vw_C, cz_cl[c]? = some q ∧ Cond.selects q.1 (⟨"HeldCoats", "snap", "()V"⟩ : MethodName) (⟨"HeldCoats", "snap", "()V"⟩ : MethodName) ∈ lw_all := List.forall_mem_cons.mpr ⟨⟨_, cz_cl0, qs20⟩, fun _ h => absurd h List.not_mem_nil⟩
theorem md_X1_snap : cz_md yX1_snap 3 (ws_ yX1_snap cX1_snap 3 ((Option.none : Option Jvm.ClassFile.FieldType))) 0 := ⟨cz_ws_code q1304, q113, ⟨by decide, by decide, by decide +kernel⟩, by decide⟩
set_option maxHeartbeats 4000000 in
set_option maxRecDepth 100000 in
noncomputable def fn_X1_lived_17 (l0 : Option Nat) (l1 : Option Nat) (k0 : Int32 → Int32 → cz_H → cz_Z) : Nat → Int32 → Int32 → cz_H → cz_Z
  | 0, _, _, _ => none
  | n + 1, l3, l4, h => cz_rc h l1 [2] (cz_cI (fn_J2_size l1 h) (fun x18 h17 => (if x18 ≤ l4 then k0 l3 l4 h17 else (if l3 = 0 then cz_rc h17 l1 [2] (cz_cR (fn_J2_get l1 l4 h17) (fun r26 h25 => cz_cast h25 r26 [12, 13, 14, 15, 17] (cz_getR h25 l0 [(0, 5)] (fun r27 => cz_cI (fn_disp_does r26 r27 h25) (fun x35 h34 => (if x35 = 0 then cz_leti (l4 + 1) (fun x36 => fn_X1_lived_17 l0 l1 k0 n x35 x36 h34) else fn_X1_lived_17 l0 l1 k0 n x35 l4 h34)))))) else k0 l3 l4 h17))))
set_option maxHeartbeats 4000000 in
set_option maxRecDepth 100000 in
theorem wk_X1_lived_17 {K : cz_K} {D : cz_D} {h0 : cz_H} {oh : cz_O × cz_H} {l0 : Option Nat} {l1 : Option Nat} {l2 : Int32} {k0 : Int32 → Int32 → cz_H → cz_Z} (S : cz_S K D h0 cX1_lived 5 "HeldCoats" ((Option.some Jvm.ClassFile.FieldType.int)) "lived" ([])) (hk0 : ∀ (e3 : Int32) (e4 : Int32) (h : cz_H), cz_T K D 12 h0 oh 5 (k0 e3 e4 h) h 57 [(0, cz_r l0), (2, cz_i l2), (3, cz_i e3), (4, cz_i e4)] []) : ∀ (n : Nat) (l3 : Int32) (l4 : Int32) (h : cz_H), cz_T K D 12 h0 oh 5 (fn_X1_lived_17 l0 l1 k0 n l3 l4 h) h 17 [(0, cz_r l0), (1, cz_r l1), (2, cz_i l2), (3, cz_i l3), (4, cz_i l4)] [] := by
  intro n
  induction n with
  | zero => intros; exact ct_none
  | succ n ih =>
    intro l3 l4 h
    rw [fn_X1_lived_17]
    refine ct_iload (k := 4) S dX1_lived_17 rfl ?_
    refine ct_aload_n (k := 1) S dX1_lived_19 rfl rfl ?_
    refine ct_rc (fun b11 ci12 V13 hb14 hc15 hi16 => ?_)
    refine ct_cI (st := [cz_i l4]) (cg_virtual (av := []) S hb14 hc15 hi16 (fun _ e => mt_J2_size e) md_J2_size q1389 q341 se_java_util_ArrayList_size___I_java_util_ArrayList (by decide) (Nat.le_of_ble_eq_true rfl) rfl dX1_lived_20) (fun x18 h17 => ?_)
    refine ct_icmp_ge (tgt := 57) S dX1_lived_23 (by decide) ?_ ?_
    · exact ct_sub [0, 2, 3, 4] rfl (hk0 l3 l4 h17)
    · refine ct_iload_n (k := 3) S dX1_lived_26 rfl rfl ?_
      refine ct_if_ne (tgt := 57) S dX1_lived_27 (by decide) ?_ ?_
      · exact ct_sub [0, 2, 3, 4] rfl (hk0 l3 l4 h17)
      · refine ct_aload_n (k := 1) S dX1_lived_30 rfl rfl ?_
        refine ct_iload (k := 4) S dX1_lived_31 rfl ?_
        refine ct_rc (fun b19 ci20 V21 hb22 hc23 hi24 => ?_)
        refine ct_cR (st := []) (cg_virtual (av := [cz_i l4]) S hb22 hc23 hi24 (fun _ e => mt_J2_get e) md_J2_get q1092 q345 se_java_util_ArrayList_get__I_Ljava_lang_Object__java_util_ArrayList (by decide) (Nat.le_of_ble_eq_true rfl) rfl dX1_lived_33) (fun r26 h25 => ?_)
        refine ct_cast S q1617 ca_HeldCoats_Act dX1_lived_36 ?_
        refine ct_aload_n (k := 0) S dX1_lived_39 rfl rfl ?_
        refine ct_getR S fw_X1_46 dX1_lived_40 (fun r27 => ?_)
        refine ct_cI (st := []) (cg_disp (owner := "HeldCoats$Act") (av := [cz_r r27]) S (fun _ e => mt_disp_does e) q1198 q1200 q1199 ⟨by decide, by decide⟩ nh_HeldCoats_Act_does__LHeldCoats_Reign__I (by decide) (Nat.le_of_ble_eq_true rfl) rfl dX1_lived_43) (fun x35 h34 => ?_)
        refine ct_istore_n (L' := [(3, cz_i x35), (0, cz_r l0), (1, cz_r l1), (2, cz_i l2), (4, cz_i l4)]) S dX1_lived_46 rfl (by decide) rfl ?_
        refine ct_iload_n (k := 0) S dX1_lived_47 rfl rfl ?_
        refine ct_if_ne (tgt := 17) S dX1_lived_48 (by decide) ?_ ?_
        · exact ct_sub [1, 2, 3, 0, 4] rfl (ih x35 l4 h34)
        · refine ct_iincL (j := 4) (L2 := fun x36 => [(4, cz_i x36), (3, cz_i x35), (0, cz_r l0), (1, cz_r l1), (2, cz_i l2)]) S dX1_lived_51 rfl kI_1 (by decide) (fun _ => rfl) (fun x36 => ?_)
          refine ct_goto (tgt := 17) S dX1_lived_54 (by decide) ?_
          exact ct_sub [2, 3, 4, 1, 0] rfl (ih x35 x36 h34)
set_option maxHeartbeats 4000000 in
set_option maxRecDepth 100000 in
noncomputable def fn_X1_lived (l0 : Option Nat) (l1 : Option Nat) (l2 : Int32) (h : cz_H) : cz_Z := cz_getR h l0 [(0, 5)] (fun r1 => cz_getR h l0 [(0, 4)] (fun r2 => cz_rc h r1 [3] (cz_cR (fn_X3_as r1 r2 h) (fun r10 h9 => fn_X1_lived_17 l0 l1 (fun (e37 : Int32) (e38 : Int32) (h39 : cz_H) => cz_getR h39 l0 [(0, 16)] (fun r40 => cz_iast h39 r40 0 e37 (fun h41 => cz_getR h41 l0 [(0, 16)] (fun r42 => cz_iast h41 r42 1 e38 (fun h43 => cz_getR h43 l0 [(0, 16)] (fun r44 => cz_getR h43 l0 [(0, 5)] (fun r45 => cz_getI h43 r45 [(3, 1)] (fun x46 => cz_iast h43 r44 2 x46 (fun h47 => cz_getR h47 l0 [(0, 16)] (fun r48 => cz_getR h47 l0 [(0, 5)] (fun r49 => cz_getI h47 r49 [(3, 2)] (fun x50 => cz_getR h47 l0 [(0, 4)] (fun r51 => cz_getI h47 r51 [(3, 2)] (fun x52 => cz_iast h47 r48 3 (x50 - x52) (fun h53 => cz_jn (fun (h54 : cz_H) => (if e37 = 0 then some (.inl (some (cz_i (-1))), h54) else some (.inl (some (cz_i e38)), h54))) (fun j55 => (if l2 = 0 then j55 h53 else (if e38 ≤ 0 then j55 h53 else cz_rc h53 l0 [0] (cz_cV (fn_X1_snap l0 h53) (fun h62 => cz_getR h62 l0 [(0, 4)] (fun r63 => cz_getR h62 l0 [(0, 5)] (fun r64 => cz_rc h62 r63 [3] (cz_cR (fn_X3_as r63 r64 h62) (fun r72 h71 => j55 h71)))))))))))))))))))))))) 1000 0 0 h9))))
set_option maxHeartbeats 4000000 in
set_option maxRecDepth 100000 in
theorem wk_X1_lived {K : cz_K} {D : cz_D} {h0 : cz_H} {oh : cz_O × cz_H} {l0 : Option Nat} {l1 : Option Nat} {l2 : Int32} {h : cz_H} (S : cz_S K D h0 cX1_lived 5 "HeldCoats" ((Option.some Jvm.ClassFile.FieldType.int)) "lived" ([])) : cz_T K D 12 h0 oh 5 (fn_X1_lived l0 l1 l2 h) h 0 [(0, cz_r l0), (1, cz_r l1), (2, cz_i l2)] [] := by
  unfold fn_X1_lived
  refine ct_aload_n (k := 0) S dX1_lived_0 rfl rfl ?_
  refine ct_getR S fw_X1_46 dX1_lived_1 (fun r1 => ?_)
  refine ct_aload_n (k := 0) S dX1_lived_4 rfl rfl ?_
  refine ct_getR S fw_X1_42 dX1_lived_5 (fun r2 => ?_)
  refine ct_rc (fun b3 ci4 V5 hb6 hc7 hi8 => ?_)
  refine ct_cR (st := []) (cg_virtual (av := [cz_r r2]) S hb6 hc7 hi8 (fun _ e => mt_X3_as e) md_X3_as q1190 q1191 se_HeldCoats_Reign_as__LHeldCoats_Reign__LHeldCoats_Reign__HeldCoats_Reign (by decide) (Nat.le_of_ble_eq_true rfl) rfl dX1_lived_8) (fun r10 h9 => ?_)
  refine ct_pop S dX1_lived_11 rfl ?_
  refine ct_iconst (v := 0) S dX1_lived_12 kI_0 ?_
  refine ct_istore_n (L' := [(3, cz_i 0), (0, cz_r l0), (1, cz_r l1), (2, cz_i l2)]) S dX1_lived_13 rfl (by decide) rfl ?_
  refine ct_iconst (v := 0) S dX1_lived_14 kI_0 ?_
  refine ct_istore (L' := [(4, cz_i 0), (3, cz_i 0), (0, cz_r l0), (1, cz_r l1), (2, cz_i l2)]) S dX1_lived_15 (by decide) rfl ?_
  refine ct_sub [2, 3, 4, 1, 0] (L' := [(0, cz_r l0), (1, cz_r l1), (2, cz_i l2), (3, cz_i 0), (4, cz_i 0)]) rfl (wk_X1_lived_17 S ?_ 1000 0 0 h9)
  · intro e37 e38 h39
    refine ct_aload_n (k := 0) S dX1_lived_57 rfl rfl ?_
    refine ct_getR S fw_X1_68 dX1_lived_58 (fun r40 => ?_)
    refine ct_iconst (v := 0) S dX1_lived_61 kI_0 ?_
    refine ct_iload_n (k := 2) S dX1_lived_62 rfl rfl ?_
    refine ct_iast S dX1_lived_63 (fun h41 => ?_)
    refine ct_aload_n (k := 0) S dX1_lived_64 rfl rfl ?_
    refine ct_getR S fw_X1_68 dX1_lived_65 (fun r42 => ?_)
    refine ct_iconst (v := 1) S dX1_lived_68 kI_1 ?_
    refine ct_iload (k := 3) S dX1_lived_69 rfl ?_
    refine ct_iast S dX1_lived_71 (fun h43 => ?_)
    refine ct_aload_n (k := 0) S dX1_lived_72 rfl rfl ?_
    refine ct_getR S fw_X1_68 dX1_lived_73 (fun r44 => ?_)
    refine ct_iconst (v := 2) S dX1_lived_76 kI_2 ?_
    refine ct_aload_n (k := 0) S dX1_lived_77 rfl rfl ?_
    refine ct_getR S fw_X1_46 dX1_lived_78 (fun r45 => ?_)
    refine ct_getI S fw_X1_15 dX1_lived_81 (fun x46 => ?_)
    refine ct_iast S dX1_lived_84 (fun h47 => ?_)
    refine ct_aload_n (k := 0) S dX1_lived_85 rfl rfl ?_
    refine ct_getR S fw_X1_68 dX1_lived_86 (fun r48 => ?_)
    refine ct_iconst (v := 3) S dX1_lived_89 kI_3 ?_
    refine ct_aload_n (k := 0) S dX1_lived_90 rfl rfl ?_
    refine ct_getR S fw_X1_46 dX1_lived_91 (fun r49 => ?_)
    refine ct_getI S fw_X1_223 dX1_lived_94 (fun x50 => ?_)
    refine ct_aload_n (k := 0) S dX1_lived_97 rfl rfl ?_
    refine ct_getR S fw_X1_42 dX1_lived_98 (fun r51 => ?_)
    refine ct_getI S fw_X1_223 dX1_lived_101 (fun x52 => ?_)
    refine ct_isub S dX1_lived_104 ?_
    refine ct_iast S dX1_lived_105 (fun h53 => ?_)
    refine ct_iload_n (k := 1) S dX1_lived_106 rfl rfl ?_
    refine ct_jnP (fun j55 => ∀ (h54 : cz_H), cz_T K D 12 h0 oh 5 (j55 h54) h54 131 [(3, cz_i e37), (4, cz_i e38)] []) (fun h54 => ?_) (fun j55 Hj55 => ?_)
    · refine ct_iload_n (k := 0) S dX1_lived_131 rfl rfl ?_
      refine ct_if_ne (tgt := 139) S dX1_lived_132 (by decide) ?_ ?_
      · refine ct_iload (k := 1) S dX1_lived_139 rfl ?_
        exact ct_iret S rfl dX1_lived_141
      · refine ct_iconst (v := (-1)) S dX1_lived_135 kI_m1 ?_
        refine ct_goto (tgt := 141) S dX1_lived_136 (by decide) ?_
        exact ct_iret S rfl dX1_lived_141
    · refine ct_if_eq (tgt := 131) S dX1_lived_107 (by decide) ?_ ?_
      · exact ct_sub [2, 3] rfl (Hj55 h53)
      · refine ct_iload (k := 3) S dX1_lived_110 rfl ?_
        refine ct_if_le (tgt := 131) S dX1_lived_112 (by decide) ?_ ?_
        · exact ct_sub [2, 3] rfl (Hj55 h53)
        · refine ct_aload_n (k := 0) S dX1_lived_115 rfl rfl ?_
          refine ct_rc (fun b56 ci57 V58 hb59 hc60 hi61 => ?_)
          refine ct_cV (st := []) (cg_virtual (av := []) S hb59 hc60 hi61 (fun _ e => mt_X1_snap e) md_X1_snap q1301 q1303 se_HeldCoats_snap___V_HeldCoats (by decide) (Nat.le_of_ble_eq_true rfl) rfl dX1_lived_116) (fun h62 => ?_)
          refine ct_aload_n (k := 0) S dX1_lived_119 rfl rfl ?_
          refine ct_getR S fw_X1_42 dX1_lived_120 (fun r63 => ?_)
          refine ct_aload_n (k := 0) S dX1_lived_123 rfl rfl ?_
          refine ct_getR S fw_X1_46 dX1_lived_124 (fun r64 => ?_)
          refine ct_rc (fun b65 ci66 V67 hb68 hc69 hi70 => ?_)
          refine ct_cR (st := []) (cg_virtual (av := [cz_r r64]) S hb68 hc69 hi70 (fun _ e => mt_X3_as e) md_X3_as q1190 q1191 se_HeldCoats_Reign_as__LHeldCoats_Reign__LHeldCoats_Reign__HeldCoats_Reign (by decide) (Nat.le_of_ble_eq_true rfl) rfl dX1_lived_127) (fun r72 h71 => ?_)
          refine ct_pop S dX1_lived_130 rfl ?_
          exact ct_sub [2, 3] rfl (Hj55 h71)
theorem mt_X1_lived {l : Launch} {D : cz_D} {l0 : Option Nat} {l1 : Option Nat} {l2 : Int32} {h : cz_H} {oh : cz_O × cz_H} (hz : fn_X1_lived l0 l1 l2 h = some oh) : cz_M l D yX1_lived (ws_ yX1_lived cX1_lived 5 ((Option.some Jvm.ClassFile.FieldType.int))) 12 [cz_r l0, cz_r l1, cz_i l2] h oh := cz_met (plainFor_of_name (by decide)) (Nat.le_of_ble_eq_true rfl) hz (fun K hl S => wk_X1_lived S)
/-! HeldCoats.take()I -/
def dkwX1_take_0 : List UInt8 := [42, 180, 0, 78, 60, 42, 3, 181, 0, 78, 27, 172]
abbrev dktX1_take_0 : List UInt8 := dkwX1_take_0 ++ []
theorem dksX1_take_0 : cX1_take.data.toList.drop 0 = dktX1_take_0 := by decide +kernel
theorem dX1_take_0 : decode cX1_take 0 = .ok (.aload_n 0, 1) := dk_42 (dk_at dksX1_take_0 0 rfl rfl)
theorem dX1_take_1 : decode cX1_take 1 = .ok (.getfield 78, 3) := dk_180 0 78 (dk_at dksX1_take_0 1 rfl rfl)
theorem dX1_take_4 : decode cX1_take 4 = .ok (.istore_n 1, 1) := dk_60 (dk_at dksX1_take_0 4 rfl rfl)
theorem dX1_take_5 : decode cX1_take 5 = .ok (.aload_n 0, 1) := dk_42 (dk_at dksX1_take_0 5 rfl rfl)
theorem dX1_take_6 : decode cX1_take 6 = .ok (.iconst 0, 1) := dk_3 (dk_at dksX1_take_0 6 rfl rfl)
theorem dX1_take_7 : decode cX1_take 7 = .ok (.putfield 78, 3) := dk_181 0 78 (dk_at dksX1_take_0 7 rfl rfl)
theorem dX1_take_10 : decode cX1_take 10 = .ok (.iload_n 1, 1) := dk_27 (dk_at dksX1_take_0 10 rfl rfl)
theorem dX1_take_11 : decode cX1_take 11 = .ok (.ireturn, 1) := dk_172 (dk_at dksX1_take_0 11 rfl rfl)
theorem fw_X1_78 : cz_FW "HeldCoats" 78 [(0, 1)] "I" := ⟨"HeldCoats", "taped", Or.inl q381, List.forall_mem_cons.mpr ⟨⟨RX1, TX1, 18, rfl, by decide, rfl, rfl, Or.inl rfl⟩, fun _ h => absurd h List.not_mem_nil⟩, by decide⟩
theorem fp_X1_m_0_1 {nm : String} : cz_FP "HeldCoats" nm [(0, 1)] := List.forall_mem_cons.mpr ⟨⟨RX1, TX1, 18, rfl, Or.inl rfl⟩, fun _ h => absurd h List.not_mem_nil⟩
set_option maxHeartbeats 4000000 in
set_option maxRecDepth 100000 in
noncomputable def fn_X1_take (l0 : Option Nat) (h : cz_H) : cz_Z := cz_getI h l0 [(0, 1)] (fun x1 => cz_put h l0 [(0, 1)] (cz_i 0) (fun h2 => some (.inl (some (cz_i x1)), h2)))
set_option maxHeartbeats 4000000 in
set_option maxRecDepth 100000 in
theorem wk_X1_take {K : cz_K} {D : cz_D} {h0 : cz_H} {oh : cz_O × cz_H} {l0 : Option Nat} {h : cz_H} (S : cz_S K D h0 cX1_take 2 "HeldCoats" ((Option.some Jvm.ClassFile.FieldType.int)) "take" ([])) : cz_T K D 2 h0 oh 2 (fn_X1_take l0 h) h 0 [(0, cz_r l0)] [] := by
  unfold fn_X1_take
  refine ct_aload_n (k := 0) S dX1_take_0 rfl rfl ?_
  refine ct_getI S fw_X1_78 dX1_take_1 (fun x1 => ?_)
  refine ct_istore_n (L' := [(1, cz_i x1), (0, cz_r l0)]) S dX1_take_4 rfl (by decide) rfl ?_
  refine ct_aload_n (k := 1) S dX1_take_5 rfl rfl ?_
  refine ct_iconst (v := 0) S dX1_take_6 kI_0 ?_
  refine ct_put S fw_X1_78 fp_X1_m_0_1 (cz_fits_i pd_I) dX1_take_7 (fun h2 => ?_)
  refine ct_iload_n (k := 0) S dX1_take_10 rfl rfl ?_
  exact ct_iret S rfl dX1_take_11
theorem mt_X1_take {l : Launch} {D : cz_D} {l0 : Option Nat} {h : cz_H} {oh : cz_O × cz_H} (hz : fn_X1_take l0 h = some oh) : cz_M l D yX1_take (ws_ yX1_take cX1_take 2 ((Option.some Jvm.ClassFile.FieldType.int))) 2 [cz_r l0] h oh := cz_met (plainFor_of_name (by decide)) (Nat.le_of_ble_eq_true rfl) hz (fun K hl S => wk_X1_take S)
